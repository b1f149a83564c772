/-! METHODS THAT THROW: contracts, calls, ends (zk_) -/
set_option maxRecDepth 100000
/-- what is thrown: the class, the cell, the world behind it -/
def zk_XC (s0 : State) (px : String → Nat → va_W → Prop) (A : Nat → Prop) : String → Addr → State → State → Prop := fun E q st t => (∃ w1 : va_W, px E q w1 ∧ va_P (zk_D s0) zk_Cl w1 t.heap ∧ va_D A w1) ∧ va_F A st t
def zk_Cx (l : Launch) (s0 : State) (b : Nat) (y : MethodName) (ws : List Cond) (fr lo mc ms : Nat) (As : List Value) (w : va_W) (post : Option Value → va_W → Prop) (px : String → Nat → va_W → Prop) : Prop :=
  ∀ sz : Nat, vx_Met l y ws { frames := fr, cells := mc, slots := ms, locals := lo } (va_Pc As (zk_Pr s0 b w sz)) (zk_Q s0 post (va_A w sz)) (zk_XC s0 px (va_A w sz)) mc ms (va_A w sz)
/-- an exception stands in the heap -/
def zk_Th (s : State) (H : Heap) (E : String) (q : Nat) : Prop := ∃ ce : Cell, H[q]? = some ce ∧ ce.vm = .none ∧ s.vm.findClass E = some ce.cls
theorem zk_mkx {l : Launch} {s0 : State} {b : Nat} {y : MethodName} {cc : ByteArray} {nL : Nat} {ret : Option FieldType} {fr lo mc ms : Nat} {As : List Value} {w : va_W} {post : Option Value → va_W → Prop} {px : String → Nat → va_W → Prop} (hy : plainName y.cls = true) (hlen : Nat.ble (lg_sl As).length nL = true)
    (body : ∀ (p : Program) (e : Env) (s : State) (m : MethodId) (below : List Frame) (meth : Method) (c : Code) (A : Nat → Prop) (R : Room) (args : Array Value) (Q : State → Prop), zk_Fx s0 b p s m args meth c cc nL ret y.cls y.name A → zk_Rm R fr lo mc ms → Q = vx_MQ below (zk_Q s0 post A) (zk_XC s0 px A) args s mc ms A → (∀ x ∈ c.exceptionTable.toList, False) → va_P (zk_D s0) zk_Cl w s.heap → va_D A w → va_S A s.heap s.heap [] → ∀ ls : Array Slot, lv_has ls nL (lv_args 0 As) →
      W p l e R s m args below meth c s.heap [] 0 0 Q (F0 m 0 ls [])) :
    zk_Cx l s0 b y (ws_ y cc nL ret) fr lo mc ms As w post px := by
  intro sz
  refine vx_ofW (cc := cc) (maxL := nL) (ret := ret) hy rfl ?_
  intro p e s m args below meth c s₁ B hml ht hv
  obtain ⟨rfl, hsz, hP, hD0, hG⟩ := hv
  have hts := atoms_spec (ws := ws_ y cc nL ret) B.pre
  have hts : ∀ w ∈ lw_all, w.before _ s = true := fun w h => hts w (List.mem_cons_of_mem _ h)
  subst hsz
  have hD := hD0.self (sz := s.heap.size)
  rw [lg_entry_eq]
  exact body p e s m below meth c _ _ _ _ ⟨B.exec, B.bytes, hml, findClass_of_methodNamed B.named, hts, B.returns, B.notSynchronized, (name_of_methodNamed B.named B.method).1, hG, fun q h => Or.inr h⟩ ⟨rfl, rfl, rfl, rfl⟩ rfl ht hP hD va_S.rf _ (lv_entry As (Nat.le_of_ble_eq_true hlen))
section ZXR
variable {p : Program} {l : Launch} {e : Env} {R : Room} {s : State} {m : MethodId} {args : Array Value} {below : List Frame} {meth : Method} {c : Code} {H : Heap} {locs : List Loc} {cells slots mc ms : Nat} {Q : State → Prop}
variable {cc : ByteArray} {pc nL : Nat} {ls : Array Slot} {rest st0 : List Value} {s0 : State} {b : Nat} {A : Nat → Prop} {ret : Option FieldType} {own nm : String} {ws wc wr : va_W} {o : Nat} {post post0 : Option Value → va_W → Prop} {px px0 : String → Nat → va_W → Prop} {a : Array Value}
theorem zk_gox (hr : vx_Run p l e R s m args below meth c H locs cells slots mc ms (F0 m pc ls st0) rest (zk_Q s0 post (va_A wc H.size) a) (zk_XC s0 px (va_A wc H.size)) (va_A wc H.size)) (hP : va_P (zk_D s0) zk_Cl ws H) (hD : va_D A ws) (hS : va_S A s.heap H locs) (hA : ∀ q : Nat, s.heap.size ≤ q → A q) (cut : ws.Perm (wc ++ wr))
    (kx : ∀ (E : String) (q : Nat) (w1 : va_W) (H1 : Heap) (locs1 : List Loc), px E q w1 → zk_Th s H1 E q → va_P (zk_D s0) zk_Cl (w1 ++ wr) H1 → va_D A (w1 ++ wr) → va_S A s.heap H1 locs1 → vx_W p l e R s m args below meth c H1 locs1 (cells + mc) (slots + ms) Q (F0 m pc ls rest) q)
    (kk : ∀ (v : Option Value) (w1 : va_W) (H1 : Heap) (locs1 : List Loc), post v w1 → va_P (zk_D s0) zk_Cl (w1 ++ wr) H1 → va_D A (w1 ++ wr) → va_S A s.heap H1 locs1 → W p l e R s m args below meth c H1 locs1 (cells + mc) (slots + ms) Q (F0 m (pc + 3) ls (v.toList ++ rest))) : W p l e R s m args below meth c H locs cells slots Q (F0 m pc ls st0) := by
  have hF := zk_fits (ws' := ws) hP hD cut hS hA
  intro T hT X
  rcases hr T hT X with ⟨v, st₀, t, T', L, h0, X', hL, e1, e2, ⟨⟨v2, w1, hv, hp, hb, hd⟩, hz, hk⟩, st⟩ | ⟨q, st₀, t, T', L, E, ce, h0, X', hL, e1, e2, ⟨⟨w1, hp, hb, hd⟩, hz, hk⟩, hce, hcv, hcl, st⟩
  · obtain rfl : v = v2 := by cases hv; rfl
    rw [h0] at hz hk
    rw [← e1] at hb hz hk
    obtain ⟨j1, j2⟩ := zk_join hP hD cut hF hk hb hd
    obtain ⟨t2, a1, b1⟩ := kk v w1 T'.heap (locs ++ L) hp j1 j2
      ⟨Nat.le_trans hS.1 hz, fun q h1 h2 => by rw [hk q (Nat.lt_of_lt_of_le h1 hS.1) (fun z => h2 (hF q z))]; exact hS.2.1 q h1 h2, fun q hq => by
        rcases List.mem_append.mp hq with h | h
        · exact hS.2.2 q h
        · exact hF _ (hL q h)⟩ T' rfl X'
    exact ⟨t2, st t2 a1, b1⟩
  · rw [h0] at hz hk
    rw [← e1] at hb hz hk hce
    obtain ⟨j1, j2⟩ := zk_join hP hD cut hF hk hb hd
    obtain ⟨t2, a1, b1⟩ := kx E q w1 T'.heap (locs ++ L) hp ⟨ce, hce, hcv, hcl⟩ j1 j2
      ⟨Nat.le_trans hS.1 hz, fun q h1 h2 => by rw [hk q (Nat.lt_of_lt_of_le h1 hS.1) (fun z => h2 (hF q z))]; exact hS.2.1 q h1 h2, fun q hq => by
        rcases List.mem_append.mp hq with h | h
        · exact hS.2.2 q h
        · exact hF _ (hL q h)⟩ T' rfl X'
    exact ⟨t2, st.trans a1, b1⟩
/-- not caught: it goes on -/
theorem zk_outx (fx : zk_Fx s0 b p s m args meth c cc nL ret own nm A) (eQ : Q = vx_MQ below (zk_Q s0 post0 A) (zk_XC s0 px0 A) args s mc ms A) (hout : ∀ x ∈ c.exceptionTable.toList, covers x pc = false) {E : String} {q : Nat} {w1 : va_W} (hT : zk_Th s H E q) (hP : va_P (zk_D s0) zk_Cl w1 H) (hD : va_D A w1) (hS : va_S A s.heap H locs) (hc : cells ≤ mc) (hs : slots ≤ ms) (hp : px0 E q w1) : vx_W p l e R s m args below meth c H locs cells slots Q (F0 m pc ls rest) q := by
  obtain ⟨ce, h1, h2, h3⟩ := hT
  subst eQ
  exact vx_out hout fx.2.2.2.2.2.2.1 h1 h2 h3 (fun t ht _ => ⟨⟨w1, hp, by rw [ht]; exact hP, hD⟩, hS.F ht⟩) hS.2.2 hc hs
theorem zk_callSx (fx : zk_Fx s0 b p s m args meth c cc nL ret own nm A) {y : MethodName} {bytes : ByteArray} {maxL index fr lo : Nat} {ret' : Option FieldType} {As : List Value} (hC : zk_Cx l s0 b y (ws_ y bytes maxL ret') fr lo mc ms As wc post px) (g : GoodIn lw_all (va_wsS own index y (ws_ y bytes maxL ret')))
    (hd : y.cls ≠ "java/lang/invoke/MethodHandle" ∧ y.cls ≠ "java/lang/invoke/VarHandle" ∧ (parseMethodDescriptor y.desc).map (fun d => d.parameters.length) = some As.length) (hR : fr + 1 ≤ R.frames ∧ 8 + (maxL + 11) + lo ≤ R.locals) (hf : cells + mc ≤ R.cells ∧ slots + ms ≤ R.slots)
    (hP : va_P (zk_D s0) zk_Cl ws H) (hD : va_D A ws) (hS : va_S A s.heap H locs) (cut : ws.Perm (wc ++ wr))
    (hsize : ls.size = nL) (hst : st0 = As.reverse ++ rest) (hW : (rest.map fun v => v.category).sum ≤ 8) (d : decode cc pc = .ok (.invokestatic index, 3))
    (kx : ∀ (E : String) (q : Nat) (w1 : va_W) (H1 : Heap) (locs1 : List Loc), px E q w1 → zk_Th s H1 E q → va_P (zk_D s0) zk_Cl (w1 ++ wr) H1 → va_D A (w1 ++ wr) → va_S A s.heap H1 locs1 → vx_W p l e R s m args below meth c H1 locs1 (cells + mc) (slots + ms) Q (F0 m pc ls rest) q)
    (kk : ∀ (v : Option Value) (w1 : va_W) (H1 : Heap) (locs1 : List Loc), post v w1 → va_P (zk_D s0) zk_Cl (w1 ++ wr) H1 → va_D A (w1 ++ wr) → va_S A s.heap H1 locs1 → W p l e R s m args below meth c H1 locs1 (cells + mc) (slots + ms) Q (F0 m (pc + 3) ls (v.toList ++ rest))) : W p l e R s m args below meth c H locs cells slots Q (F0 m pc ls st0) := by
  obtain ⟨hx, hb, hml, hown, hts, -, -, -, hG, hA⟩ := fx
  have hPr := zk_start (As := As) hG hP hD hS hA cut
  exact zk_gox (vx_runS ⟨hx, hb, hml, hown, hts⟩ (hC H.size) (va_cwS As.length hts g rfl rfl rfl hd hR) hPr rfl rfl hsize hst (lv_room hW) d hf) hP hD hS hA cut kx kk
theorem zk_callVx (fx : zk_Fx s0 b p s m args meth c cc nL ret own nm A) {y : MethodName} {bytes : ByteArray} {maxL index fr lo : Nat} {ret' : Option FieldType} {C : String} {As : List Value} (hC : zk_Cx l s0 b y (ws_ y bytes maxL ret') fr lo mc ms (.ref o :: As) wc post px) (g : GoodIn lw_all (wsV own index C y (ws_ y bytes maxL ret')))
    (hd : y.cls = C ∧ y.cls ≠ "java/lang/invoke/MethodHandle" ∧ y.cls ≠ "java/lang/invoke/VarHandle" ∧ (parseMethodDescriptor y.desc).map (fun d => d.parameters.length) = some As.length) (hR : fr + 1 ≤ R.frames ∧ 8 + (maxL + 11) + lo ≤ R.locals) (hf : cells + mc ≤ R.cells ∧ slots + ms ≤ R.slots)
    (hP : va_P (zk_D s0) zk_Cl ws H) (hD : va_D A ws) (hS : va_S A s.heap H locs) (cut : ws.Perm (wc ++ wr)) (ci : Nat) {q : vw_C} (hc : zk_Cl[ci]? = some q) (hq : q.1 = C) {fs : List Value} (k0 : Nat) (he : wc[k0]? = some (o, .inr (ci, fs)))
    (hsize : ls.size = nL) (hst : st0 = As.reverse ++ .ref o :: rest) (hW : (rest.map fun v => v.category).sum ≤ 8) (d : decode cc pc = .ok (.invokevirtual index, 3))
    (kx : ∀ (E : String) (q : Nat) (w1 : va_W) (H1 : Heap) (locs1 : List Loc), px E q w1 → zk_Th s H1 E q → va_P (zk_D s0) zk_Cl (w1 ++ wr) H1 → va_D A (w1 ++ wr) → va_S A s.heap H1 locs1 → vx_W p l e R s m args below meth c H1 locs1 (cells + mc) (slots + ms) Q (F0 m pc ls rest) q)
    (kk : ∀ (v : Option Value) (w1 : va_W) (H1 : Heap) (locs1 : List Loc), post v w1 → va_P (zk_D s0) zk_Cl (w1 ++ wr) H1 → va_D A (w1 ++ wr) → va_S A s.heap H1 locs1 → W p l e R s m args below meth c H1 locs1 (cells + mc) (slots + ms) Q (F0 m (pc + 3) ls (v.toList ++ rest))) : W p l e R s m args below meth c H locs cells slots Q (F0 m pc ls st0) := by
  obtain ⟨hx, hb, hml, hown, hts, -, -, -, hG, hA⟩ := fx
  have hPr := zk_start (As := .ref o :: As) hG hP hD hS hA cut
  have hrecv := va_recv hG.K (zk_Pl (zk_Pp hP cut)) hc he
  rw [hq] at hrecv
  exact zk_gox (vx_runV ⟨hx, hb, hml, hown, hts⟩ (hC H.size) (cwV As.length hts g rfl rfl rfl hd hR) ⟨hPr.1, hrecv, hPr.2⟩ rfl rfl hsize hst (lv_room hW) d hf) hP hD hS hA cut kx kk
/-- a static method of a nest mate -/
theorem zk_callSN (fx : zk_Fx s0 b p s m args meth c cc nL ret own nm A) {y : MethodName} {bytes : ByteArray} {maxL index fr lo : Nat} {ret' : Option FieldType} {host : String} {As : List Value} (hC : zk_C l s0 b y (ws_ y bytes maxL ret') fr lo mc ms As wc post) (g : GoodIn lw_all (ws_ y bytes maxL ret')) (g1 : Cond.initialized y.cls ∈ lw_all) (g2 : Cond.methodLinkNest own index y host ∈ lw_tbl) (g3 : Cond.static y ∈ lw_all)
    (hd : y.cls ≠ "java/lang/invoke/MethodHandle" ∧ y.cls ≠ "java/lang/invoke/VarHandle" ∧ (parseMethodDescriptor y.desc).map (fun d => d.parameters.length) = some As.length) (hR : fr + 1 ≤ R.frames ∧ 8 + (maxL + 11) + lo ≤ R.locals) (hf : cells + mc ≤ R.cells ∧ slots + ms ≤ R.slots)
    (hP : va_P (zk_D s0) zk_Cl ws H) (hD : va_D A ws) (hS : va_S A s.heap H locs) (cut : ws.Perm (wc ++ wr))
    (hsize : ls.size = nL) (hst : st0 = As.reverse ++ rest) (hW : (rest.map fun v => v.category).sum ≤ 8) (d : decode cc pc = .ok (.invokestatic index, 3))
    (kk : ∀ (v : Option Value) (w1 : va_W) (H1 : Heap) (locs1 : List Loc), post v w1 → va_P (zk_D s0) zk_Cl (w1 ++ wr) H1 → va_D A (w1 ++ wr) → va_S A s.heap H1 locs1 → W p l e R s m args below meth c H1 locs1 (cells + mc) (slots + ms) Q (F0 m (pc + 3) ls (v.toList ++ rest))) : W p l e R s m args below meth c H locs cells slots Q (F0 m pc ls st0) := by
  obtain ⟨hx, hb, hml, hown, hts, -, -, -, hG, hA⟩ := fx
  have hPr := zk_start (As := As) hG hP hD hS hA cut
  have hl : va_Nw (.methodLinkNest own index y host) s := va_Nw.warmM hG.2.1 (va_Nw.of rfl (hG.1.1 _ g2))
  exact zk_go (va_runSN ⟨hx, hb, hml, hown, hts⟩ (hC H.size) ⟨va_cnB As.length hts g rfl rfl rfl hl (hts _ g1) hd hR, hts _ g3, trivial⟩ hPr rfl rfl hsize hst (lv_room hW) d hf) hP hD hS hA cut kk
theorem zk_callSNx (fx : zk_Fx s0 b p s m args meth c cc nL ret own nm A) {y : MethodName} {bytes : ByteArray} {maxL index fr lo : Nat} {ret' : Option FieldType} {host : String} {As : List Value} (hC : zk_Cx l s0 b y (ws_ y bytes maxL ret') fr lo mc ms As wc post px) (g : GoodIn lw_all (ws_ y bytes maxL ret')) (g1 : Cond.initialized y.cls ∈ lw_all) (g2 : Cond.methodLinkNest own index y host ∈ lw_tbl) (g3 : Cond.static y ∈ lw_all)
    (hd : y.cls ≠ "java/lang/invoke/MethodHandle" ∧ y.cls ≠ "java/lang/invoke/VarHandle" ∧ (parseMethodDescriptor y.desc).map (fun d => d.parameters.length) = some As.length) (hR : fr + 1 ≤ R.frames ∧ 8 + (maxL + 11) + lo ≤ R.locals) (hf : cells + mc ≤ R.cells ∧ slots + ms ≤ R.slots)
    (hP : va_P (zk_D s0) zk_Cl ws H) (hD : va_D A ws) (hS : va_S A s.heap H locs) (cut : ws.Perm (wc ++ wr))
    (hsize : ls.size = nL) (hst : st0 = As.reverse ++ rest) (hW : (rest.map fun v => v.category).sum ≤ 8) (d : decode cc pc = .ok (.invokestatic index, 3))
    (kx : ∀ (E : String) (q : Nat) (w1 : va_W) (H1 : Heap) (locs1 : List Loc), px E q w1 → zk_Th s H1 E q → va_P (zk_D s0) zk_Cl (w1 ++ wr) H1 → va_D A (w1 ++ wr) → va_S A s.heap H1 locs1 → vx_W p l e R s m args below meth c H1 locs1 (cells + mc) (slots + ms) Q (F0 m pc ls rest) q)
    (kk : ∀ (v : Option Value) (w1 : va_W) (H1 : Heap) (locs1 : List Loc), post v w1 → va_P (zk_D s0) zk_Cl (w1 ++ wr) H1 → va_D A (w1 ++ wr) → va_S A s.heap H1 locs1 → W p l e R s m args below meth c H1 locs1 (cells + mc) (slots + ms) Q (F0 m (pc + 3) ls (v.toList ++ rest))) : W p l e R s m args below meth c H locs cells slots Q (F0 m pc ls st0) := by
  obtain ⟨hx, hb, hml, hown, hts, -, -, -, hG, hA⟩ := fx
  have hPr := zk_start (As := As) hG hP hD hS hA cut
  have hl : va_Nw (.methodLinkNest own index y host) s := va_Nw.warmM hG.2.1 (va_Nw.of rfl (hG.1.1 _ g2))
  exact zk_gox (vx_runSN ⟨hx, hb, hml, hown, hts⟩ (hC H.size) ⟨va_cnB As.length hts g rfl rfl rfl hl (hts _ g1) hd hR, hts _ g3, trivial⟩ hPr rfl rfl hsize hst (lv_room hW) d hf) hP hD hS hA cut kx kk
end ZXR
/-! the two statics that a throw reads -/
theorem zx_l {a d : Cond} {x : Array Value} {s : State} (h : (Cond.and a d).before x s = true) : a.before x s = true := by rw [Cond.before_and] at h; exact ((Bool.and_eq_true_iff ..).mp h).1
theorem zx_r {a d : Cond} {x : Array Value} {s : State} (h : (Cond.and a d).before x s = true) : d.before x s = true := by rw [Cond.before_and] at h; exact ((Bool.and_eq_true_iff ..).mp h).2
theorem zk_ZU {s0 s : State} {b : Nat} {A : Nat → Prop} (hG : zk_G s0 b A s s.heap) : vx_Zq Bundle.tN "UNASSIGNED_STACK" Bundle.steD A s s.heap := by
  have h1 : narrow_1_1.before #[Value.ref b] s0 = true := zx_l (zx_l (zx_r hG.1.2.1))
  have h0 : (Cond.isRef (.static Bundle.tN "UNASSIGNED_STACK" Bundle.steD)).before #[Value.ref b] s0 = true := zx_l (zx_r (zx_l (zx_l (zx_l (zx_l (zx_l (zx_l h1)))))))
  exact vx_Zq.kept (vx_Zq.moved hG.2.1.alike (vx_Zqof (hG.1.1 _ q306) (hG.1.1 _ (lw_all_tbl q95)) h0 hG.2.2.1)) (fun a h1 h2 => hG.2.2.2 a h1)
theorem zk_ZN {s0 s : State} {b : Nat} {A : Nat → Prop} (hG : zk_G s0 b A s s.heap) : vx_Zq Bundle.tN "SUPPRESSED_SENTINEL" Bundle.listD A s s.heap := by
  have h1 : narrow_1_1.before #[Value.ref b] s0 = true := zx_l (zx_l (zx_r hG.1.2.1))
  have h0 : (Cond.isRef (.static Bundle.tN "SUPPRESSED_SENTINEL" Bundle.listD)).before #[Value.ref b] s0 = true := zx_l (zx_r (zx_r (zx_l (zx_l (zx_l (zx_l (zx_l (zx_l h1))))))))
  exact vx_Zq.kept (vx_Zq.moved hG.2.1.alike (vx_Zqof (hG.1.1 _ q308) (hG.1.1 _ (lw_all_tbl q95)) h0 hG.2.2.1)) (fun a h1 h2 => hG.2.2.2 a h1)
