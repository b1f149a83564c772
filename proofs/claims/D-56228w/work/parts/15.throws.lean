/-! THROWS of our classes (zk_throw0) -/
set_option maxRecDepth 100000
def zx_k : Cond → Bool
  | .castable .. => true
  | .declares _ => true
  | w => goodWord w
theorem zx_kw {s0 s : State} {a args : Array Value} {w : Cond} (hW : s0.WarmedH s.vm) (hk : zx_k w = true) (h : w.before a s0 = true) : w.before args s = true := by
  by_cases hg : goodWord w = true
  · exact word_at hW (good_of_word hg) h
  · cases w with
    | castable C T => exact va_Nw.use rfl (va_Nw.warmC hW (va_Nw.of rfl h))
    | declares x => exact va_Nw.use rfl (va_Nw.warmD hW (va_Nw.of rfl h))
    | _ => exact absurd hk hg
theorem zx_hat {s0 s : State} {b : Nat} {A : Nat → Prop} {H : Heap} {args : Array Value} (hG : zk_G s0 b A s H) {L : List Cond} (h1 : ∀ w ∈ L, w ∈ lw_tbl) (h2 : ∀ w ∈ L, zx_k w = true) : ∀ w ∈ L, w.before args s = true := fun w h => zx_kw hG.2.1 (h2 w h) (hG.1.1 w (h1 w h))
section ZTH
variable {p : Program} {l : Launch} {e : Env} {R : Room} {s : State} {m : MethodId} {args : Array Value} {below : List Frame} {meth : Method} {c : Code} {H : Heap} {locs : List Loc} {cells slots mc ms : Nat}
variable {cc : ByteArray} {pc nL : Nat} {ls : Array Slot} {rest : List Value} {s0 : State} {b : Nat} {A : Nat → Prop} {ret : Option FieldType} {own nm : String} {ws : va_W} {post : Option Value → va_W → Prop} {px : String → Nat → va_W → Prop}
theorem zk_throw0 (fx : zk_Fx s0 b p s m args meth c cc nL ret own nm A) (hl : l.stackTraces = false) (hno : ∀ x ∈ c.exceptionTable.toList, False) {cls : String} {names : List String} {ik ic : Nat} (hcls : Bundle.fit cls = true) (hnames : ∀ n ∈ names, Bundle.fit n = true)
    (hk : Cond.classLink own ik cls ∈ lw_all) (hini : Cond.initialized cls ∈ lw_all) (hm : ∀ w ∈ vx_at0 own ic cls names, w ∈ lw_tbl) (hf : ∀ w ∈ vx_at0 own ic cls names, zx_k w = true) (hgood : ∀ w ∈ Cond.classLink own ik cls :: Cond.initialized cls :: vx_at0 own ic cls names, vx_ot w = true)
    (hP : va_P (zk_D s0) zk_Cl ws H) (hD : va_D A ws) (hS : va_S A s.heap H locs) (hsize : ls.size = nL)
    (d0 : decode cc pc = .ok (.new ik, 3)) (d3 : decode cc (pc + 3) = .ok (.dup, 1)) (d4 : decode cc (pc + 4) = .ok (.invokespecial ic, 3)) (d7 : decode cc (pc + 7) = .ok (.athrow, 1))
    (hRf : names.length + 3 < R.frames) (hRl : (rest.map fun v => v.category).sum + (13 * (names.length + 1) + 42) ≤ R.locals) (hRc : cells + 1 ≤ R.cells) (hRs : slots + 6 ≤ R.slots) (hc : cells + 1 ≤ mc) (hs : slots + 6 ≤ ms)
    (hp : ∀ q : Nat, px cls q ws) : W p l e R s m args below meth c H locs cells slots (vx_MQ below (zk_Q s0 post A) (zk_XC s0 px A) args s mc ms A) (F0 m pc ls rest) := by
  obtain ⟨hx, hb, hml, hown, hts, hret, hlk, hnm, hG, hA⟩ := fx
  refine vx_throw0 hx hb hl hown hcls hnames (hts _ hk) (hts _ hini) (zx_hat hG hm hf) hgood (zk_ZU hG) (zk_ZN hG) hS (hsize.trans hml.symm) d0 d3 d4 d7 (fun x hx => (hno x hx).elim) hRf hRl hRc hRs hlk ?_ hS.2.2 hc hs
  intro q9 t hal hz hk9
  refine ⟨⟨ws, hp q9, hP.kept (fun k x hx => hk9 x.1 ((hP k x hx).lt)), hD⟩, Nat.le_trans hS.1 hz, fun q h1 h2 => ?_⟩
  rw [hk9 q (Nat.lt_of_lt_of_le h1 hS.1)]
  exact hS.2.1 q h1 h2
end ZTH
/-- a nest mate's field -/
theorem zk_nf {p : Program} {s : State} {m : MethodId} {args : Array Value} {meth : Method} {c : Code} {cc : ByteArray} {nL : Nat} {s0 : State} {b : Nat} {A : Nat → Prop} {ret : Option FieldType} {own nm : String} (fx : zk_Fx s0 b p s m args meth c cc nL ret own nm A) {a : String} {i : Nat} {t n d h : String} (g : Cond.fieldLinkNest a i t n d h ∈ lw_tbl) : (Cond.fieldLinkNest a i t n d h).before args s = true := va_Nw.use rfl (va_Nw.warmF fx.2.2.2.2.2.2.2.2.1.2.1 (va_Nw.of rfl (fx.2.2.2.2.2.2.2.2.1.1.1 _ g)))
