/-! ROWS: ends, calls, numbers that are naturals (zk_, zn_) -/
set_option maxRecDepth 100000
theorem zk_Pmem {D : va_G} {cl : List vw_C} {ws : va_W} {H : Heap} : va_P D cl ws H ↔ ∀ q ∈ ws, va_at D cl q H := by
  constructor
  · intro h q hq
    obtain ⟨k, hk⟩ := List.getElem?_of_mem hq
    exact h k q hk
  · intro h k q hk
    exact h q (List.mem_of_getElem? hk)
theorem zk_Dnd {A : Nat → Prop} {ws : va_W} : va_D A ws ↔ (ws.map (fun q => q.1)).Nodup ∧ ∀ q ∈ ws, A q.1 := by
  have hN : (ws.map (fun q => q.1)).Nodup ↔ ∀ (i j : Nat) (hi : i < ws.length) (hj : j < ws.length), i < j → (ws[i]).1 ≠ (ws[j]).1 := by
    rw [List.Nodup, List.pairwise_iff_getElem]
    constructor
    · intro h i j hi hj hij
      have := h i j (by simpa using hi) (by simpa using hj) hij
      simpa using this
    · intro h i j hi hj hij
      have := h i j (by simpa using hi) (by simpa using hj) hij
      simpa using this
  rw [hN]
  constructor
  · intro h
    refine ⟨fun i j hi hj hij e => ?_, fun q hq => ?_⟩
    · have := h.1 i j ws[i] ws[j] (List.getElem?_eq_getElem hi) (List.getElem?_eq_getElem hj) e
      omega
    · obtain ⟨k, hk⟩ := List.getElem?_of_mem hq
      exact h.2 k q hk
  · rintro ⟨h1, h2⟩
    refine ⟨fun i j p q hi hj e => ?_, fun k q hk => h2 q (List.mem_of_getElem? hk)⟩
    obtain ⟨hi', ei⟩ := List.getElem?_eq_some_iff.mp hi
    obtain ⟨hj', ej⟩ := List.getElem?_eq_some_iff.mp hj
    rcases Nat.lt_trichotomy i j with c | c | c
    · exact absurd (by rw [ei, ej]; exact e) (h1 i j hi' hj' c)
    · exact c
    · exact absurd (by rw [ei, ej]; exact e.symm) (h1 j i hj' hi' c)
theorem zk_Pp {D : va_G} {cl : List vw_C} {ws ws' : va_W} {H : Heap} (h : va_P D cl ws H) (p : ws.Perm ws') : va_P D cl ws' H := zk_Pmem.mpr fun q hq => zk_Pmem.mp h q (p.mem_iff.mpr hq)
theorem zk_Dp {A : Nat → Prop} {ws ws' : va_W} (h : va_D A ws) (p : ws.Perm ws') : va_D A ws' := zk_Dnd.mpr ⟨((p.map (fun q => q.1)).nodup_iff).mp (zk_Dnd.mp h).1, fun q hq => (zk_Dnd.mp h).2 q (p.mem_iff.mpr hq)⟩
theorem zk_Pl {D : va_G} {cl : List vw_C} {w1 w2 : va_W} {H : Heap} (h : va_P D cl (w1 ++ w2) H) : va_P D cl w1 H := zk_Pmem.mpr fun q hq => zk_Pmem.mp h q (List.mem_append_left _ hq)
theorem zk_Pr2 {D : va_G} {cl : List vw_C} {w1 w2 : va_W} {H : Heap} (h : va_P D cl (w1 ++ w2) H) : va_P D cl w2 H := zk_Pmem.mpr fun q hq => zk_Pmem.mp h q (List.mem_append_right _ hq)
theorem zk_Dl {A : Nat → Prop} {w1 w2 : va_W} (h : va_D A (w1 ++ w2)) : va_D A w1 := by
  obtain ⟨h1, h2⟩ := zk_Dnd.mp h
  rw [List.map_append, List.nodup_append] at h1
  exact zk_Dnd.mpr ⟨h1.1, fun q hq => h2 q (List.mem_append_left _ hq)⟩
theorem zk_Dr {A : Nat → Prop} {w1 w2 : va_W} (h : va_D A (w1 ++ w2)) : va_D A w2 := by
  obtain ⟨h1, h2⟩ := zk_Dnd.mp h
  rw [List.map_append, List.nodup_append] at h1
  exact zk_Dnd.mpr ⟨h1.2.1, fun q hq => h2 q (List.mem_append_right _ hq)⟩
theorem zk_ne {A : Nat → Prop} {w1 w2 : va_W} (h : va_D A (w1 ++ w2)) {p q : Nat × va_E} (hp : p ∈ w1) (hq : q ∈ w2) : p.1 ≠ q.1 := by
  obtain ⟨h1, -⟩ := zk_Dnd.mp h
  rw [List.map_append, List.nodup_append] at h1
  exact h1.2.2 p.1 (List.mem_map_of_mem hp) q.1 (List.mem_map_of_mem hq)
/-- blocks of a world, taken by their places -/
theorem zk_bp (bs : List va_W) (n : Nat) (is : List Nat) {cs : List va_W} (h : is.map (fun i => bs[i]?) = cs.map some) (hl : bs.length = n) (hp : is.Perm (List.range n)) : bs.flatten.Perm cs.flatten := by
  subst hl
  have h1 : (is.map (fun i => bs[i]?)).Perm ((List.range bs.length).map (fun i => bs[i]?)) := hp.map _
  have h2 : (List.range bs.length).map (fun i => bs[i]?) = bs.map some := by
    apply List.ext_getElem?
    intro i
    by_cases hi : i < bs.length
    · simp [hi]
    · simp [hi]
  rw [h, h2] at h1
  have h3 : cs.Perm bs := by
    have := h1.filterMap id
    simpa using this
  exact (List.Perm.flatten h3).symm
section ZRUN
variable {p : Program} {l : Launch} {e : Env} {R : Room} {s : State} {m : MethodId} {args : Array Value} {below : List Frame} {meth : Method} {c : Code} {H : Heap} {locs : List Loc} {cells slots : Nat} {Q : State → Prop}
variable {cc : ByteArray} {pc nL : Nat} {ls : Array Slot} {rest st0 : List Value} {s0 : State} {b : Nat} {A : Nat → Prop} {ret : Option FieldType} {own nm : String} {ws wc wr : va_W} {a : Array Value} {post : Option Value → va_W → Prop} {mc ms : Nat}
theorem zk_fits {ws' : va_W} (hP : va_P (zk_D s0) zk_Cl ws H) (hD : va_D A ws) (cut : ws.Perm (wc ++ wr)) (hS : va_S A s.heap H locs) (hA : ∀ q : Nat, s.heap.size ≤ q → A q) : ∀ q, va_A wc H.size q → A q := by
  intro q hq
  rcases hq with ⟨k, e9, hk⟩ | hq
  · have : (q, e9) ∈ ws := cut.mem_iff.mpr (List.mem_append_left _ (List.mem_of_getElem? hk))
    exact (zk_Dnd.mp hD).2 _ this
  · exact hA q (Nat.le_trans hS.1 hq)
theorem zk_join {w1 : va_W} {H1 : Heap} (hP : va_P (zk_D s0) zk_Cl ws H) (hD : va_D A ws) (cut : ws.Perm (wc ++ wr)) (hF : ∀ q, va_A wc H.size q → A q) (hk : ∀ q : Nat, q < H.size → ¬ va_A wc H.size q → H1[q]? = H[q]?) (hP1 : va_P (zk_D s0) zk_Cl w1 H1) (hD1 : va_D (va_A wc H.size) w1) : va_P (zk_D s0) zk_Cl (w1 ++ wr) H1 ∧ va_D A (w1 ++ wr) := by
  have hPc := zk_Pp hP cut
  have hDc := zk_Dp hD cut
  have hn : ∀ q ∈ wr, q.1 < H.size ∧ ¬ va_A wc H.size q.1 := by
    intro q hq
    have hlt : q.1 < H.size := (zk_Pmem.mp hPc q (List.mem_append_right _ hq)).lt
    refine ⟨hlt, fun z => ?_⟩
    rcases z with ⟨k, e9, hk⟩ | z
    · exact zk_ne hDc (List.mem_of_getElem? hk) hq rfl
    · omega
  constructor
  · refine zk_Pmem.mpr fun q hq => ?_
    rcases List.mem_append.mp hq with h | h
    · exact zk_Pmem.mp hP1 q h
    · exact (zk_Pmem.mp hPc q (List.mem_append_right _ h)).kept (hk q.1 (hn q h).1 (hn q h).2)
  · obtain ⟨d1, d2⟩ := zk_Dnd.mp hD1
    obtain ⟨c1, c2⟩ := zk_Dnd.mp hDc
    rw [List.map_append, List.nodup_append] at c1
    refine zk_Dnd.mpr ⟨?_, fun q hq => ?_⟩
    · rw [List.map_append, List.nodup_append]
      refine ⟨d1, c1.2.1, fun x hx y hy e9 => ?_⟩
      obtain ⟨q1, hq1, rfl⟩ := List.mem_map.mp hx
      obtain ⟨q2, hq2, rfl⟩ := List.mem_map.mp hy
      exact (hn q2 hq2).2 (e9 ▸ d2 q1 hq1)
    · rcases List.mem_append.mp hq with h | h
      · exact hF _ (d2 q h)
      · exact c2 q (List.mem_append_right _ h)
theorem zk_blind {As : List Value} {sz : Nat} : FrameBlind (va_Pc As (zk_Pr s0 b ws sz)) := by
  rintro v U g mk ⟨h0, h1, h2, h3, h4⟩
  exact ⟨h0, h1, h2, h3, h4⟩
theorem zk_start {As : List Value} (hG : zk_G s0 b A s s.heap) (hP : va_P (zk_D s0) zk_Cl ws H) (hD : va_D A ws) (hS : va_S A s.heap H locs) (hA : ∀ q : Nat, s.heap.size ≤ q → A q) (cut : ws.Perm (wc ++ wr)) : PreS s H (va_Pc As (zk_Pr s0 b wc H.size)) As := by
  refine ⟨zk_blind, fun U hU hW => ⟨rfl, by rw [hU], by rw [hU]; exact zk_Pl (zk_Pp hP cut), (zk_Dl (zk_Dp hD cut)).weaken (fun _ _ _ _ => trivial), ?_⟩⟩
  rw [hU]
  exact (hG.kept hS.2.1 (zk_fits (ws' := ws) hP hD cut hS hA)).moved hW
theorem zk_go (hr : va_Run p l e R s m args below meth c H locs cells slots mc ms (F0 m pc ls st0) rest (zk_Q s0 post (va_A wc H.size) a) (va_A wc H.size)) (hP : va_P (zk_D s0) zk_Cl ws H) (hD : va_D A ws) (hS : va_S A s.heap H locs) (hA : ∀ q : Nat, s.heap.size ≤ q → A q) (cut : ws.Perm (wc ++ wr))
    (kk : ∀ (v : Option Value) (w1 : va_W) (H1 : Heap) (locs1 : List Loc), post v w1 → va_P (zk_D s0) zk_Cl (w1 ++ wr) H1 → va_D A (w1 ++ wr) → va_S A s.heap H1 locs1 → W p l e R s m args below meth c H1 locs1 (cells + mc) (slots + ms) Q (F0 m (pc + 3) ls (v.toList ++ rest))) : W p l e R s m args below meth c H locs cells slots Q (F0 m pc ls st0) := by
  have hF := zk_fits (ws' := ws) hP hD cut hS hA
  intro T hT X
  obtain ⟨v, st₀, t, T', L, h0, X', hL, e1, e2, ⟨⟨v2, w1, hv, hp, hb, hd⟩, hz, hk⟩, st⟩ := hr T hT X
  obtain rfl : v = v2 := by cases hv; rfl
  rw [h0] at hz hk
  rw [← e1] at hb hz hk
  obtain ⟨j1, j2⟩ := zk_join hP hD cut hF hk hb hd
  obtain ⟨t2, a1, b1⟩ := kk v w1 T'.heap (locs ++ L) hp j1 j2
    ⟨Nat.le_trans hS.1 hz, fun q h1 h2 => by rw [hk q (Nat.lt_of_lt_of_le h1 hS.1) (fun z => h2 (hF q z))]; exact hS.2.1 q h1 h2, fun q hq => by
      rcases List.mem_append.mp hq with h | h
      · exact hS.2.2 q h
      · exact hF _ (hL q h)⟩ T' rfl X'
  exact ⟨t2, st t2 a1, b1⟩
theorem zk_callV (fx : zk_Fx s0 b p s m args meth c cc nL ret own nm A) {y : MethodName} {bytes : ByteArray} {maxL index fr lo : Nat} {ret' : Option FieldType} {C : String} {o : Nat} {As : List Value} (hC : zk_C l s0 b y (ws_ y bytes maxL ret') fr lo mc ms (.ref o :: As) wc post) (g : GoodIn lw_all (wsV own index C y (ws_ y bytes maxL ret')))
    (hd : y.cls = C ∧ y.cls ≠ "java/lang/invoke/MethodHandle" ∧ y.cls ≠ "java/lang/invoke/VarHandle" ∧ (parseMethodDescriptor y.desc).map (fun d => d.parameters.length) = some As.length) (hR : fr + 1 ≤ R.frames ∧ 8 + (maxL + 11) + lo ≤ R.locals) (hf : cells + mc ≤ R.cells ∧ slots + ms ≤ R.slots)
    (hP : va_P (zk_D s0) zk_Cl ws H) (hD : va_D A ws) (hS : va_S A s.heap H locs) (cut : ws.Perm (wc ++ wr)) (ci : Nat) {q : vw_C} (hc : zk_Cl[ci]? = some q) (hq : q.1 = C) {fs : List Value} (k0 : Nat) (he : wc[k0]? = some (o, .inr (ci, fs)))
    (hsize : ls.size = nL) (hst : st0 = As.reverse ++ .ref o :: rest) (hW : (rest.map fun v => v.category).sum ≤ 8) (d : decode cc pc = .ok (.invokevirtual index, 3))
    (kk : ∀ (v : Option Value) (w1 : va_W) (H1 : Heap) (locs1 : List Loc), post v w1 → va_P (zk_D s0) zk_Cl (w1 ++ wr) H1 → va_D A (w1 ++ wr) → va_S A s.heap H1 locs1 → W p l e R s m args below meth c H1 locs1 (cells + mc) (slots + ms) Q (F0 m (pc + 3) ls (v.toList ++ rest))) : W p l e R s m args below meth c H locs cells slots Q (F0 m pc ls st0) := by
  obtain ⟨hx, hb, hml, hown, hts, -, -, -, hG, hA⟩ := fx
  have hPr := zk_start (As := .ref o :: As) hG hP hD hS hA cut
  have hrecv := va_recv hG.K (zk_Pl (zk_Pp hP cut)) hc he
  rw [hq] at hrecv
  exact zk_go (va_runV ⟨hx, hb, hml, hown, hts⟩ (hC H.size) (cwV As.length hts g rfl rfl rfl hd hR) ⟨hPr.1, hrecv, hPr.2⟩ rfl rfl hsize hst (lv_room hW) d hf) hP hD hS hA cut kk
theorem zk_callS (fx : zk_Fx s0 b p s m args meth c cc nL ret own nm A) {y : MethodName} {bytes : ByteArray} {maxL index fr lo : Nat} {ret' : Option FieldType} {As : List Value} (hC : zk_C l s0 b y (ws_ y bytes maxL ret') fr lo mc ms As wc post) (g : GoodIn lw_all (va_wsS own index y (ws_ y bytes maxL ret')))
    (hd : y.cls ≠ "java/lang/invoke/MethodHandle" ∧ y.cls ≠ "java/lang/invoke/VarHandle" ∧ (parseMethodDescriptor y.desc).map (fun d => d.parameters.length) = some As.length) (hR : fr + 1 ≤ R.frames ∧ 8 + (maxL + 11) + lo ≤ R.locals) (hf : cells + mc ≤ R.cells ∧ slots + ms ≤ R.slots)
    (hP : va_P (zk_D s0) zk_Cl ws H) (hD : va_D A ws) (hS : va_S A s.heap H locs) (cut : ws.Perm (wc ++ wr))
    (hsize : ls.size = nL) (hst : st0 = As.reverse ++ rest) (hW : (rest.map fun v => v.category).sum ≤ 8) (d : decode cc pc = .ok (.invokestatic index, 3))
    (kk : ∀ (v : Option Value) (w1 : va_W) (H1 : Heap) (locs1 : List Loc), post v w1 → va_P (zk_D s0) zk_Cl (w1 ++ wr) H1 → va_D A (w1 ++ wr) → va_S A s.heap H1 locs1 → W p l e R s m args below meth c H1 locs1 (cells + mc) (slots + ms) Q (F0 m (pc + 3) ls (v.toList ++ rest))) : W p l e R s m args below meth c H locs cells slots Q (F0 m pc ls st0) := by
  obtain ⟨hx, hb, hml, hown, hts, -, -, -, hG, hA⟩ := fx
  have hPr := zk_start (As := As) hG hP hD hS hA cut
  exact zk_go (va_runS ⟨hx, hb, hml, hown, hts⟩ (hC H.size) (va_cwS As.length hts g rfl rfl rfl hd hR) hPr rfl rfl hsize hst (lv_room hW) d hf) hP hD hS hA cut kk
theorem zk_callI (fx : zk_Fx s0 b p s m args meth c cc nL ret own nm A) {y : MethodName} {bytes : ByteArray} {maxL index fr lo : Nat} {o : Nat} {As : List Value} (hC : zk_C l s0 b y (ws_ y bytes maxL none) fr lo mc ms (.ref o :: As) wc post) (g : GoodIn lw_all (ws_ y bytes maxL none)) (g1 : Cond.initialized y.cls ∈ lw_all) (g2 : Cond.methodLink own index y ∈ lw_all) (g3 : Cond.instanceMethod y ∈ lw_all) (hy1 : y.name = "<init>")
    (hd : y.cls ≠ "java/lang/invoke/MethodHandle" ∧ y.cls ≠ "java/lang/invoke/VarHandle" ∧ (parseMethodDescriptor y.desc).map (fun d => d.parameters.length) = some As.length) (hR : fr + 1 ≤ R.frames ∧ 8 + (maxL + 11) + lo ≤ R.locals) (hf : cells + mc ≤ R.cells ∧ slots + ms ≤ R.slots)
    (hP : va_P (zk_D s0) zk_Cl ws H) (hD : va_D A ws) (hS : va_S A s.heap H locs) (cut : ws.Perm (wc ++ wr))
    (hsize : ls.size = nL) (hst : st0 = As.reverse ++ .ref o :: rest) (hW : (rest.map fun v => v.category).sum ≤ 8) (d : decode cc pc = .ok (.invokespecial index, 3))
    (kk : ∀ (v : Option Value) (w1 : va_W) (H1 : Heap) (locs1 : List Loc), post v w1 → va_P (zk_D s0) zk_Cl (w1 ++ wr) H1 → va_D A (w1 ++ wr) → va_S A s.heap H1 locs1 → W p l e R s m args below meth c H1 locs1 (cells + mc) (slots + ms) Q (F0 m (pc + 3) ls (v.toList ++ rest))) : W p l e R s m args below meth c H locs cells slots Q (F0 m pc ls st0) := by
  obtain ⟨hx, hb, hml, hown, hts, -, -, -, hG, hA⟩ := fx
  have hPr := zk_start (As := .ref o :: As) hG hP hD hS hA cut
  exact zk_go (va_runI ⟨hx, hb, hml, hown, hts⟩ (hC H.size) (cwI As.length hts g rfl rfl rfl (hts _ g1) (hts _ g2) (hts _ g3) hy1 hd hR) hPr rfl rfl hsize hst (lv_room hW) d hf) hP hD hS hA cut kk
theorem zk_callV0 (fx : zk_Fx s0 b p s m args meth c cc nL ret own nm A) {y : MethodName} {bytes : ByteArray} {maxL index fr lo : Nat} {ret' : Option FieldType} {C : String} {o : Nat} {As : List Value} (hC : zk_C l s0 b y (ws_ y bytes maxL ret') fr lo mc ms (.ref o :: As) ws post) (g : GoodIn lw_all (wsV own index C y (ws_ y bytes maxL ret')))
    (hd : y.cls = C ∧ y.cls ≠ "java/lang/invoke/MethodHandle" ∧ y.cls ≠ "java/lang/invoke/VarHandle" ∧ (parseMethodDescriptor y.desc).map (fun d => d.parameters.length) = some As.length) (hR : fr + 1 ≤ R.frames ∧ 8 + (maxL + 11) + lo ≤ R.locals) (hf : cells + mc ≤ R.cells ∧ slots + ms ≤ R.slots)
    (hP : va_P (zk_D s0) zk_Cl ws H) (hD : va_D A ws) (hS : va_S A s.heap H locs) (ci : Nat) {q : vw_C} (hc : zk_Cl[ci]? = some q) (hq : q.1 = C) {fs : List Value} (k0 : Nat) (he : ws[k0]? = some (o, .inr (ci, fs)))
    (hsize : ls.size = nL) (hst : st0 = As.reverse ++ .ref o :: rest) (hW : (rest.map fun v => v.category).sum ≤ 8) (d : decode cc pc = .ok (.invokevirtual index, 3))
    (kk : ∀ (v : Option Value) (w1 : va_W) (H1 : Heap) (locs1 : List Loc), post v w1 → va_P (zk_D s0) zk_Cl w1 H1 → va_D A w1 → va_S A s.heap H1 locs1 → W p l e R s m args below meth c H1 locs1 (cells + mc) (slots + ms) Q (F0 m (pc + 3) ls (v.toList ++ rest))) : W p l e R s m args below meth c H locs cells slots Q (F0 m pc ls st0) :=
  zk_callV fx hC g hd hR hf hP hD hS (wr := []) (by rw [List.append_nil]) ci hc hq k0 he hsize hst hW d (fun v w1 H1 locs1 h1 h2 h3 h4 => kk v w1 H1 locs1 h1 (by rwa [List.append_nil] at h2) (by rwa [List.append_nil] at h3) h4)
theorem zk_callS0 (fx : zk_Fx s0 b p s m args meth c cc nL ret own nm A) {y : MethodName} {bytes : ByteArray} {maxL index fr lo : Nat} {ret' : Option FieldType} {As : List Value} (hC : zk_C l s0 b y (ws_ y bytes maxL ret') fr lo mc ms As ws post) (g : GoodIn lw_all (va_wsS own index y (ws_ y bytes maxL ret')))
    (hd : y.cls ≠ "java/lang/invoke/MethodHandle" ∧ y.cls ≠ "java/lang/invoke/VarHandle" ∧ (parseMethodDescriptor y.desc).map (fun d => d.parameters.length) = some As.length) (hR : fr + 1 ≤ R.frames ∧ 8 + (maxL + 11) + lo ≤ R.locals) (hf : cells + mc ≤ R.cells ∧ slots + ms ≤ R.slots)
    (hP : va_P (zk_D s0) zk_Cl ws H) (hD : va_D A ws) (hS : va_S A s.heap H locs)
    (hsize : ls.size = nL) (hst : st0 = As.reverse ++ rest) (hW : (rest.map fun v => v.category).sum ≤ 8) (d : decode cc pc = .ok (.invokestatic index, 3))
    (kk : ∀ (v : Option Value) (w1 : va_W) (H1 : Heap) (locs1 : List Loc), post v w1 → va_P (zk_D s0) zk_Cl w1 H1 → va_D A w1 → va_S A s.heap H1 locs1 → W p l e R s m args below meth c H1 locs1 (cells + mc) (slots + ms) Q (F0 m (pc + 3) ls (v.toList ++ rest))) : W p l e R s m args below meth c H locs cells slots Q (F0 m pc ls st0) :=
  zk_callS fx hC g hd hR hf hP hD hS (wr := []) (by rw [List.append_nil]) hsize hst hW d (fun v w1 H1 locs1 h1 h2 h3 h4 => kk v w1 H1 locs1 h1 (by rwa [List.append_nil] at h2) (by rwa [List.append_nil] at h3) h4)
theorem zk_callSn (fx : zk_Fx s0 b p s m args meth c cc nL ret own nm A) {y : MethodName} {bytes : ByteArray} {maxL index fr lo : Nat} {ret' : Option FieldType} {As : List Value} (hC : zk_C l s0 b y (ws_ y bytes maxL ret') fr lo mc ms As [] (fun v w => post v w ∧ w = [])) (g : GoodIn lw_all (va_wsS own index y (ws_ y bytes maxL ret')))
    (hd : y.cls ≠ "java/lang/invoke/MethodHandle" ∧ y.cls ≠ "java/lang/invoke/VarHandle" ∧ (parseMethodDescriptor y.desc).map (fun d => d.parameters.length) = some As.length) (hR : fr + 1 ≤ R.frames ∧ 8 + (maxL + 11) + lo ≤ R.locals) (hf : cells + mc ≤ R.cells ∧ slots + ms ≤ R.slots)
    (hP : va_P (zk_D s0) zk_Cl ws H) (hD : va_D A ws) (hS : va_S A s.heap H locs)
    (hsize : ls.size = nL) (hst : st0 = As.reverse ++ rest) (hW : (rest.map fun v => v.category).sum ≤ 8) (d : decode cc pc = .ok (.invokestatic index, 3))
    (kk : ∀ (v : Option Value) (H1 : Heap) (locs1 : List Loc), post v [] → va_P (zk_D s0) zk_Cl ws H1 → va_D A ws → va_S A s.heap H1 locs1 → W p l e R s m args below meth c H1 locs1 (cells + mc) (slots + ms) Q (F0 m (pc + 3) ls (v.toList ++ rest))) : W p l e R s m args below meth c H locs cells slots Q (F0 m pc ls st0) :=
  zk_callS fx hC g hd hR hf hP hD hS (wc := []) (wr := ws) (List.Perm.refl _) hsize hst hW d (fun v w1 H1 locs1 h1 h2 h3 h4 => by obtain ⟨h1, rfl⟩ := h1; exact kk v H1 locs1 h1 h2 h3 h4)
theorem zk_callI0 (fx : zk_Fx s0 b p s m args meth c cc nL ret own nm A) {y : MethodName} {bytes : ByteArray} {maxL index fr lo : Nat} {o : Nat} {As : List Value} (hC : zk_C l s0 b y (ws_ y bytes maxL none) fr lo mc ms (.ref o :: As) ws post) (g : GoodIn lw_all (ws_ y bytes maxL none)) (g1 : Cond.initialized y.cls ∈ lw_all) (g2 : Cond.methodLink own index y ∈ lw_all) (g3 : Cond.instanceMethod y ∈ lw_all) (hy1 : y.name = "<init>")
    (hd : y.cls ≠ "java/lang/invoke/MethodHandle" ∧ y.cls ≠ "java/lang/invoke/VarHandle" ∧ (parseMethodDescriptor y.desc).map (fun d => d.parameters.length) = some As.length) (hR : fr + 1 ≤ R.frames ∧ 8 + (maxL + 11) + lo ≤ R.locals) (hf : cells + mc ≤ R.cells ∧ slots + ms ≤ R.slots)
    (hP : va_P (zk_D s0) zk_Cl ws H) (hD : va_D A ws) (hS : va_S A s.heap H locs)
    (hsize : ls.size = nL) (hst : st0 = As.reverse ++ .ref o :: rest) (hW : (rest.map fun v => v.category).sum ≤ 8) (d : decode cc pc = .ok (.invokespecial index, 3))
    (kk : ∀ (v : Option Value) (w1 : va_W) (H1 : Heap) (locs1 : List Loc), post v w1 → va_P (zk_D s0) zk_Cl w1 H1 → va_D A w1 → va_S A s.heap H1 locs1 → W p l e R s m args below meth c H1 locs1 (cells + mc) (slots + ms) Q (F0 m (pc + 3) ls (v.toList ++ rest))) : W p l e R s m args below meth c H locs cells slots Q (F0 m pc ls st0) :=
  zk_callI fx hC g g1 g2 g3 hy1 hd hR hf hP hD hS (wr := []) (by rw [List.append_nil]) hsize hst hW d (fun v w1 H1 locs1 h1 h2 h3 h4 => kk v w1 H1 locs1 h1 (by rwa [List.append_nil] at h2) (by rwa [List.append_nil] at h3) h4)
/-- ends -/
theorem zk_reti (fx : zk_Fx s0 b p s m args meth c cc nL ret own nm A) (eQ : Q = MQ below (zk_Q s0 post A) args s mc ms A) {w1 : va_W} {v : Int32} {ty : FieldType} (hr : ret = some ty) (hn : narrow ty (.int v) = .int v) (hP : va_P (zk_D s0) zk_Cl w1 H) (hD : va_D A w1) (hS : va_S A s.heap H locs) (hc : cells ≤ mc) (hs : slots ≤ ms) (d : decode cc pc = .ok (.ireturn, 1)) (hp : post (some (.int v)) w1) :
    W p l e R s m args below meth c H locs cells slots Q (F0 m pc ls [.int v]) := by
  obtain ⟨hx, hb, hml, hown, hts, hret, hlk, -, hG, hA⟩ := fx
  subst eQ
  refine W.widen hc hs ?_
  exact W.zret (v := v) hx hb (hret.trans hr) hn (fun t ht hW => ⟨⟨_, _, rfl, hp, by rw [ht]; exact hP, hD⟩, hS.F ht⟩) hS.2.2 d hlk
theorem zk_retl (fx : zk_Fx s0 b p s m args meth c cc nL ret own nm A) (eQ : Q = MQ below (zk_Q s0 post A) args s mc ms A) {w1 : va_W} {v : Int64} (hr : ret = some .long) (hP : va_P (zk_D s0) zk_Cl w1 H) (hD : va_D A w1) (hS : va_S A s.heap H locs) (hc : cells ≤ mc) (hs : slots ≤ ms) (d : decode cc pc = .ok (.lreturn, 1)) (hp : post (some (.long v)) w1) :
    W p l e R s m args below meth c H locs cells slots Q (F0 m pc ls [.long v]) := by
  obtain ⟨hx, hb, hml, hown, hts, hret, hlk, -, hG, hA⟩ := fx
  subst eQ
  refine W.widen hc hs ?_
  exact W.lret (v := v) hx hb (hret.trans hr) (fun t ht hW => ⟨⟨_, _, rfl, hp, by rw [ht]; exact hP, hD⟩, hS.F ht⟩) hS.2.2 d hlk
theorem zk_retv (fx : zk_Fx s0 b p s m args meth c cc nL ret own nm A) (eQ : Q = MQ below (zk_Q s0 post A) args s mc ms A) {w1 : va_W} (hr : ret = none) (hP : va_P (zk_D s0) zk_Cl w1 H) (hD : va_D A w1) (hS : va_S A s.heap H locs) (hc : cells ≤ mc) (hs : slots ≤ ms) (d : decode cc pc = .ok (.return_, 1)) (hp : post none w1) :
    W p l e R s m args below meth c H locs cells slots Q (F0 m pc ls []) := by
  obtain ⟨hx, hb, hml, hown, hts, hret, hlk, -, hG, hA⟩ := fx
  subst eQ
  refine W.widen hc hs ?_
  exact W.vret hx hb (hret.trans hr) (fun t ht hW => ⟨⟨_, _, rfl, hp, by rw [ht]; exact hP, hD⟩, hS.F ht⟩) hS.2.2 d hlk
theorem zk_reta (fx : zk_Fx s0 b p s m args meth c cc nL ret own nm A) (eQ : Q = MQ below (zk_Q s0 post A) args s mc ms A) {w1 : va_W} {o : Nat} {rt : FieldType} (hr : ret = some rt) (hrt : (∃ n, rt = .object n) ∨ ∃ t, rt = .array t) (hP : va_P (zk_D s0) zk_Cl w1 H) (hD : va_D A w1) (hS : va_S A s.heap H locs) (hc : cells ≤ mc) (hs : slots ≤ ms) (d : decode cc pc = .ok (.areturn, 1)) (hp : post (some (.ref o)) w1) :
    W p l e R s m args below meth c H locs cells slots Q (F0 m pc ls [.ref o]) := by
  obtain ⟨hx, hb, hml, hown, hts, hret, hlk, -, hG, hA⟩ := fx
  subst eQ
  refine W.widen hc hs ?_
  exact W.aret (v := .ref o) hx hb (hret.trans hr) hrt (Or.inr ⟨o, rfl⟩) (fun t ht hW => ⟨⟨_, _, rfl, hp, by rw [ht]; exact hP, hD⟩, hS.F ht⟩) hS.2.2 d hlk
end ZRUN
def zk_F (g : Nat → Nat) : Nat → Int32 := fun j => nI (g j)
abbrev zk_I (s0 : State) (n : Nat) (g : Nat → Nat) : va_E := .inl (zk_dA s0 0, n, .inl (zk_F g))
theorem zk_Fup (g : Nat → Nat) (i x : Nat) : upd (zk_F g) i (nI x) = zk_F (va_up g i x) := by
  funext j
  simp only [upd, zk_F, va_up]
  split <;> rfl
theorem zk_F0 : (fun _ => (0 : Int32)) = zk_F (fun _ => 0) := by
  funext j
  exact nI_0.symm
theorem zn_and {a b : Nat} (ha : a < 2 ^ 32) (hb : b < 2 ^ 32) : nI a &&& nI b = nI (a &&& b) := by
  apply Int32.toBitVec_inj.mp
  apply BitVec.eq_of_toNat_eq
  have h : a &&& b < 2 ^ 32 := Nat.and_lt_two_pow _ hb
  rw [Int32.toBitVec_and, BitVec.toNat_and, pk_tn ha, pk_tn hb, pk_tn h]
theorem zn_or {a b : Nat} (ha : a < 2 ^ 32) (hb : b < 2 ^ 32) : nI a ||| nI b = nI (a ||| b) := by
  apply Int32.toBitVec_inj.mp
  apply BitVec.eq_of_toNat_eq
  have h : a ||| b < 2 ^ 32 := Nat.or_lt_two_pow ha hb
  rw [Int32.toBitVec_or, BitVec.toNat_or, pk_tn ha, pk_tn hb, pk_tn h]
theorem zn_sh : ∀ k, k < 32 → ((nI k &&& 31).toBitVec.smod 32).toNat = k := by decide +kernel
section ZN
variable {p : Program} {l : Launch} {e : Env} {R : Room} {s : State} {m : MethodId} {args : Array Value} {below : List Frame} {meth : Method} {c : Code} {H : Heap} {locs : List Loc} {cells slots : Nat} {Q : State → Prop}
variable {cc : ByteArray} {pc : Nat} {ls : Array Slot} {rest : List Value} {a b : Nat}
variable {s0 : State} {A : Nat → Prop} {ws : va_W} {o : Nat} {H0 : Heap}
theorem zn_iadd (hx : p.tables.exec = Jvm.exec) (hb : c.code = cc) (d : decode cc pc = .ok (.iadd, 1)) (k : W p l e R s m args below meth c H locs cells slots Q (F0 m (pc + 1) ls (.int (nI (a + b)) :: rest))) : W p l e R s m args below meth c H locs cells slots Q (F0 m pc ls (.int (nI b) :: .int (nI a) :: rest)) := by
  refine lv_iadd hx hb d ?_
  rw [nI_add]
  exact k
theorem zn_isub (hx : p.tables.exec = Jvm.exec) (hb : c.code = cc) (d : decode cc pc = .ok (.isub, 1)) (h : b ≤ a) (k : W p l e R s m args below meth c H locs cells slots Q (F0 m (pc + 1) ls (.int (nI (a - b)) :: rest))) : W p l e R s m args below meth c H locs cells slots Q (F0 m pc ls (.int (nI b) :: .int (nI a) :: rest)) := by
  refine lv_isub hx hb d ?_
  rw [pk_sub h]
  exact k
theorem zn_imul (hx : p.tables.exec = Jvm.exec) (hb : c.code = cc) (d : decode cc pc = .ok (.imul, 1)) (k : W p l e R s m args below meth c H locs cells slots Q (F0 m (pc + 1) ls (.int (nI (a * b)) :: rest))) : W p l e R s m args below meth c H locs cells slots Q (F0 m pc ls (.int (nI b) :: .int (nI a) :: rest)) := by
  refine lv_imul hx hb d ?_
  rw [pk_mul]
  exact k
theorem zn_idiv (hx : p.tables.exec = Jvm.exec) (hb : c.code = cc) (d : decode cc pc = .ok (.idiv, 1)) (ha : a < 2 ^ 31) (h0 : 0 < b) (h1 : b < 2 ^ 31) (k : W p l e R s m args below meth c H locs cells slots Q (F0 m (pc + 1) ls (.int (nI (a / b)) :: rest))) : W p l e R s m args below meth c H locs cells slots Q (F0 m pc ls (.int (nI b) :: .int (nI a) :: rest)) := by
  refine lv_idiv hx hb d (nI_ne0 h0 h1) ?_
  rw [pk_div ha h0 h1]
  exact k
theorem zn_irem (hx : p.tables.exec = Jvm.exec) (hb : c.code = cc) (d : decode cc pc = .ok (.irem, 1)) (ha : a < 2 ^ 31) (h0 : 0 < b) (h1 : b < 2 ^ 31) (k : W p l e R s m args below meth c H locs cells slots Q (F0 m (pc + 1) ls (.int (nI (a % b)) :: rest))) : W p l e R s m args below meth c H locs cells slots Q (F0 m pc ls (.int (nI b) :: .int (nI a) :: rest)) := by
  refine lv_irem hx hb d (nI_ne0 h0 h1) ?_
  rw [pk_rem ha h0 h1]
  exact k
theorem zn_iand (hx : p.tables.exec = Jvm.exec) (hb : c.code = cc) (d : decode cc pc = .ok (.iand, 1)) (ha : a < 2 ^ 32) (h1 : b < 2 ^ 32) (k : W p l e R s m args below meth c H locs cells slots Q (F0 m (pc + 1) ls (.int (nI (a &&& b)) :: rest))) : W p l e R s m args below meth c H locs cells slots Q (F0 m pc ls (.int (nI b) :: .int (nI a) :: rest)) := by
  refine lv_iand hx hb d ?_
  rw [zn_and ha h1]
  exact k
theorem zn_ior (hx : p.tables.exec = Jvm.exec) (hb : c.code = cc) (d : decode cc pc = .ok (.ior, 1)) (ha : a < 2 ^ 32) (h1 : b < 2 ^ 32) (k : W p l e R s m args below meth c H locs cells slots Q (F0 m (pc + 1) ls (.int (nI (a ||| b)) :: rest))) : W p l e R s m args below meth c H locs cells slots Q (F0 m pc ls (.int (nI b) :: .int (nI a) :: rest)) := by
  refine lv_ior hx hb d ?_
  rw [zn_or ha h1]
  exact k
theorem zn_ishl (hx : p.tables.exec = Jvm.exec) (hb : c.code = cc) (d : decode cc pc = .ok (.ishl, 1)) (ha : b < 32) (h1 : a * 2 ^ b < 2 ^ 32) (k : W p l e R s m args below meth c H locs cells slots Q (F0 m (pc + 1) ls (.int (nI (a * 2 ^ b)) :: rest))) : W p l e R s m args below meth c H locs cells slots Q (F0 m pc ls (.int (nI b) :: .int (nI a) :: rest)) := by
  refine lv_ishl hx hb d ?_
  rw [pk_shlN _ b (zn_sh b ha) h1]
  exact k
theorem zn_ishr (hx : p.tables.exec = Jvm.exec) (hb : c.code = cc) (d : decode cc pc = .ok (.ishr, 1)) (ha : a < 2 ^ 31) (h1 : b < 32) (k : W p l e R s m args below meth c H locs cells slots Q (F0 m (pc + 1) ls (.int (nI (a / 2 ^ b)) :: rest))) : W p l e R s m args below meth c H locs cells slots Q (F0 m pc ls (.int (nI b) :: .int (nI a) :: rest)) := by
  refine lv_ishr hx hb d ?_
  rw [pk_shrN ha _ b (zn_sh b h1)]
  exact k
theorem zn_i2l (hx : p.tables.exec = Jvm.exec) (hb : c.code = cc) (d : decode cc pc = .ok (.i2l, 1)) (ha : a < 2 ^ 31) (k : W p l e R s m args below meth c H locs cells slots Q (F0 m (pc + 1) ls (.long (lN a) :: rest))) : W p l e R s m args below meth c H locs cells slots Q (F0 m pc ls (.int (nI a) :: rest)) := lv_i2l hx hb d (nI_l ha) k
theorem zn_ladd (hx : p.tables.exec = Jvm.exec) (hb : c.code = cc) (d : decode cc pc = .ok (.ladd, 1)) (k : W p l e R s m args below meth c H locs cells slots Q (F0 m (pc + 1) ls (.long (lN (a + b)) :: rest))) : W p l e R s m args below meth c H locs cells slots Q (F0 m pc ls (.long (lN b) :: .long (lN a) :: rest)) := by
  refine lv_ladd hx hb d ?_
  rw [lN_add]
  exact k
theorem zn_top {x y : Int32} (h : x = y) (k : W p l e R s m args below meth c H locs cells slots Q (F0 m pc ls (.int y :: rest))) : W p l e R s m args below meth c H locs cells slots Q (F0 m pc ls (.int x :: rest)) := by
  rw [h]
  exact k
theorem zn_st {st st2 : List Value} (h : st = st2) (k : W p l e R s m args below meth c H locs cells slots Q (F0 m pc ls (st2))) : W p l e R s m args below meth c H locs cells slots Q (F0 m pc ls (st)) := by
  rw [h]
  exact k
theorem zn_icmp_lt (hx : p.tables.exec = Jvm.exec) (hb : c.code = cc) {off : Int} {tgt : Nat} (d : decode cc pc = .ok (.if_icmp .lt off, 3)) (ht : (pc : Int) + off = (tgt : Int)) (ha : a < 2 ^ 31) (h1 : b < 2 ^ 31) (kt : a < b → W p l e R s m args below meth c H locs cells slots Q (F0 m tgt ls (rest))) (kf : ¬ a < b → W p l e R s m args below meth c H locs cells slots Q (F0 m (pc + 3) ls (rest))) : W p l e R s m args below meth c H locs cells slots Q (F0 m pc ls (.int (nI b) :: .int (nI a) :: rest)) := lv_icmp_lt hx hb d ht (fun h => kt ((nI_ltI ha h1).mp h)) (fun h => kf (fun z => h ((nI_ltI ha h1).mpr z)))
theorem zn_icmp_le (hx : p.tables.exec = Jvm.exec) (hb : c.code = cc) {off : Int} {tgt : Nat} (d : decode cc pc = .ok (.if_icmp .le off, 3)) (ht : (pc : Int) + off = (tgt : Int)) (ha : a < 2 ^ 31) (h1 : b < 2 ^ 31) (kt : a ≤ b → W p l e R s m args below meth c H locs cells slots Q (F0 m tgt ls (rest))) (kf : ¬ a ≤ b → W p l e R s m args below meth c H locs cells slots Q (F0 m (pc + 3) ls (rest))) : W p l e R s m args below meth c H locs cells slots Q (F0 m pc ls (.int (nI b) :: .int (nI a) :: rest)) := lv_icmp_le hx hb d ht (fun h => kt ((nI_leI ha h1).mp h)) (fun h => kf (fun z => h ((nI_leI ha h1).mpr z)))
theorem zn_icmp_eq (hx : p.tables.exec = Jvm.exec) (hb : c.code = cc) {off : Int} {tgt : Nat} (d : decode cc pc = .ok (.if_icmp .eq off, 3)) (ht : (pc : Int) + off = (tgt : Int)) (ha : a < 2 ^ 31) (h1 : b < 2 ^ 31) (kt : a = b → W p l e R s m args below meth c H locs cells slots Q (F0 m tgt ls (rest))) (kf : ¬ a = b → W p l e R s m args below meth c H locs cells slots Q (F0 m (pc + 3) ls (rest))) : W p l e R s m args below meth c H locs cells slots Q (F0 m pc ls (.int (nI b) :: .int (nI a) :: rest)) := lv_icmp_eq hx hb d ht (fun h => kt ((nI_eq ha h1).mp h)) (fun h => kf (fun z => h ((nI_eq ha h1).mpr z)))
theorem zn_icmp_ne (hx : p.tables.exec = Jvm.exec) (hb : c.code = cc) {off : Int} {tgt : Nat} (d : decode cc pc = .ok (.if_icmp .ne off, 3)) (ht : (pc : Int) + off = (tgt : Int)) (ha : a < 2 ^ 31) (h1 : b < 2 ^ 31) (kt : ¬ a = b → W p l e R s m args below meth c H locs cells slots Q (F0 m tgt ls (rest))) (kf : a = b → W p l e R s m args below meth c H locs cells slots Q (F0 m (pc + 3) ls (rest))) : W p l e R s m args below meth c H locs cells slots Q (F0 m pc ls (.int (nI b) :: .int (nI a) :: rest)) := lv_icmp_ne hx hb d ht (fun h => kt (fun z => h ((nI_eq ha h1).mpr z))) (fun h => kf ((nI_eq ha h1).mp h))
theorem zn_icmp_ge (hx : p.tables.exec = Jvm.exec) (hb : c.code = cc) {off : Int} {tgt : Nat} (d : decode cc pc = .ok (.if_icmp .ge off, 3)) (ht : (pc : Int) + off = (tgt : Int)) (ha : a < 2 ^ 31) (h1 : b < 2 ^ 31) (kt : b ≤ a → W p l e R s m args below meth c H locs cells slots Q (F0 m tgt ls (rest))) (kf : ¬ b ≤ a → W p l e R s m args below meth c H locs cells slots Q (F0 m (pc + 3) ls (rest))) : W p l e R s m args below meth c H locs cells slots Q (F0 m pc ls (.int (nI b) :: .int (nI a) :: rest)) := lv_icmp_ge hx hb d ht (fun h => kt ((nI_leI h1 ha).mp h)) (fun h => kf (fun z => h ((nI_leI h1 ha).mpr z)))
theorem zn_icmp_gt (hx : p.tables.exec = Jvm.exec) (hb : c.code = cc) {off : Int} {tgt : Nat} (d : decode cc pc = .ok (.if_icmp .gt off, 3)) (ht : (pc : Int) + off = (tgt : Int)) (ha : a < 2 ^ 31) (h1 : b < 2 ^ 31) (kt : b < a → W p l e R s m args below meth c H locs cells slots Q (F0 m tgt ls (rest))) (kf : ¬ b < a → W p l e R s m args below meth c H locs cells slots Q (F0 m (pc + 3) ls (rest))) : W p l e R s m args below meth c H locs cells slots Q (F0 m pc ls (.int (nI b) :: .int (nI a) :: rest)) := lv_icmp_gt hx hb d ht (fun h => kt ((nI_ltI h1 ha).mp h)) (fun h => kf (fun z => h ((nI_ltI h1 ha).mpr z)))
theorem zn_if_eq (hx : p.tables.exec = Jvm.exec) (hb : c.code = cc) {off : Int} {tgt : Nat} (d : decode cc pc = .ok (.ifCond .eq off, 3)) (ht : (pc : Int) + off = (tgt : Int)) (ha : a < 2 ^ 31) (kt : a = 0 → W p l e R s m args below meth c H locs cells slots Q (F0 m tgt ls (rest))) (kf : ¬ a = 0 → W p l e R s m args below meth c H locs cells slots Q (F0 m (pc + 3) ls (rest))) : W p l e R s m args below meth c H locs cells slots Q (F0 m pc ls (.int (nI a) :: rest)) := lv_if_eq hx hb d ht (fun h => kt ((nI_eq ha (by decide)).mp (show nI a = nI 0 from h))) (fun h => kf (fun z => h (by rw [z]; rfl)))
theorem zn_if_ne (hx : p.tables.exec = Jvm.exec) (hb : c.code = cc) {off : Int} {tgt : Nat} (d : decode cc pc = .ok (.ifCond .ne off, 3)) (ht : (pc : Int) + off = (tgt : Int)) (ha : a < 2 ^ 31) (kt : ¬ a = 0 → W p l e R s m args below meth c H locs cells slots Q (F0 m tgt ls (rest))) (kf : a = 0 → W p l e R s m args below meth c H locs cells slots Q (F0 m (pc + 3) ls (rest))) : W p l e R s m args below meth c H locs cells slots Q (F0 m pc ls (.int (nI a) :: rest)) := lv_if_ne hx hb d ht (fun h => kt (fun z => h (by rw [z]; rfl))) (fun h => kf ((nI_eq ha (by decide)).mp (show nI a = nI 0 from h)))
theorem zn_if_gt (hx : p.tables.exec = Jvm.exec) (hb : c.code = cc) {off : Int} {tgt : Nat} (d : decode cc pc = .ok (.ifCond .gt off, 3)) (ht : (pc : Int) + off = (tgt : Int)) (ha : a < 2 ^ 31) (kt : 0 < a → W p l e R s m args below meth c H locs cells slots Q (F0 m tgt ls (rest))) (kf : a = 0 → W p l e R s m args below meth c H locs cells slots Q (F0 m (pc + 3) ls (rest))) : W p l e R s m args below meth c H locs cells slots Q (F0 m pc ls (.int (nI a) :: rest)) := lv_if_gt hx hb d ht (fun h => kt ((nI_ltI (by decide) ha).mp (show nI 0 < nI a from h))) (fun h => kf (by rcases Nat.eq_zero_or_pos a with z | z; exact z; exact absurd (show nI 0 < nI a from (nI_ltI (by decide) ha).mpr z) h))
theorem zn_if_le (hx : p.tables.exec = Jvm.exec) (hb : c.code = cc) {off : Int} {tgt : Nat} (d : decode cc pc = .ok (.ifCond .le off, 3)) (ht : (pc : Int) + off = (tgt : Int)) (ha : a < 2 ^ 31) (kt : a = 0 → W p l e R s m args below meth c H locs cells slots Q (F0 m tgt ls (rest))) (kf : 0 < a → W p l e R s m args below meth c H locs cells slots Q (F0 m (pc + 3) ls (rest))) : W p l e R s m args below meth c H locs cells slots Q (F0 m pc ls (.int (nI a) :: rest)) := lv_if_le hx hb d ht (fun h => kt (by rcases Nat.eq_zero_or_pos a with z | z; exact z; exact absurd h (nI_nle z ha))) (fun h => kf (by rcases Nat.eq_zero_or_pos a with z | z; exact absurd (by rw [z]; decide) h; exact z))
theorem zn_if_lt (hx : p.tables.exec = Jvm.exec) (hb : c.code = cc) {off : Int} {tgt : Nat} (d : decode cc pc = .ok (.ifCond .lt off, 3)) (ht : (pc : Int) + off = (tgt : Int)) (ha : a < 2 ^ 31) (kf : W p l e R s m args below meth c H locs cells slots Q (F0 m (pc + 3) ls (rest))) : W p l e R s m args below meth c H locs cells slots Q (F0 m pc ls (.int (nI a) :: rest)) := lv_if_lt hx hb d ht (fun h => absurd h (nI_pos ha)) (fun _ => kf)
theorem zn_if_ge (hx : p.tables.exec = Jvm.exec) (hb : c.code = cc) {off : Int} {tgt : Nat} (d : decode cc pc = .ok (.ifCond .ge off, 3)) (ht : (pc : Int) + off = (tgt : Int)) (ha : a < 2 ^ 31) (kt : W p l e R s m args below meth c H locs cells slots Q (F0 m tgt ls (rest))) : W p l e R s m args below meth c H locs cells slots Q (F0 m pc ls (.int (nI a) :: rest)) := lv_if_ge hx hb d ht (fun _ => kt) (fun h => absurd (nI_pos' ha) h)
theorem zn_ald (hx : p.tables.exec = Jvm.exec) (hb : c.code = cc) (hK : va_K (zk_D s0) zk_Cl (zk_tys s0) s) (hP : va_P (zk_D s0) zk_Cl ws H) (q0 : Nat) {n : Nat} {g : Nat → Nat} (ha : ws[q0]? = some (o, zk_I s0 n g)) {i : Nat} (hi : i < n) (hn : n < 2 ^ 31) (d : decode cc pc = .ok (.iaload, 1)) (k : W p l e R s m args below meth c H locs cells slots Q (F0 m (pc + 1) ls (.int (nI (g i)) :: rest))) : W p l e R s m args below meth c H locs cells slots Q (F0 m pc ls (.int (nI i) :: .ref o :: rest)) := by
  refine va_iald hx hb hK hP q0 0 ha rfl (vp_in_nI hi hn) d ?_
  rw [nI_clamp (by omega)]
  exact k
theorem zn_ast (hx : p.tables.exec = Jvm.exec) (hb : c.code = cc) (hK : va_K (zk_D s0) zk_Cl (zk_tys s0) s) (hP : va_P (zk_D s0) zk_Cl ws H) (hD : va_D A ws) (hS : va_S A H0 H locs) (q0 : Nat) {n : Nat} {g : Nat → Nat} (ha : ws[q0]? = some (o, zk_I s0 n g)) {i x : Nat} (hi : i < n) (hn : n < 2 ^ 31) (d : decode cc pc = .ok (.iastore, 1)) {ws2 : va_W} (hw : ws.set q0 (o, zk_I s0 n (va_up g i x)) = ws2)
    (kk : ∀ (H1 : Heap) (locs1 : List Loc), va_P (zk_D s0) zk_Cl ws2 H1 → va_D A ws2 → va_S A H0 H1 locs1 → W p l e R s m args below meth c H1 locs1 cells slots Q (F0 m (pc + 1) ls rest)) : W p l e R s m args below meth c H locs cells slots Q (F0 m pc ls (.int (nI x) :: .int (nI i) :: .ref o :: rest)) := by
  subst hw
  refine va_iast hx hb hK hP hD hS q0 0 ha rfl (vp_in_nI hi hn) d ?_
  rw [nI_clamp (by omega), zk_Fup]
  exact kk
theorem zn_alen (hx : p.tables.exec = Jvm.exec) (hb : c.code = cc) (hK : va_K (zk_D s0) zk_Cl (zk_tys s0) s) (hP : va_P (zk_D s0) zk_Cl ws H) (q0 t0 : Nat) {x : vp_A} {n : Nat} (ha : ws[q0]? = some (o, .inl (zk_dA s0 t0, x))) {ty : FieldType} (ht : (zk_tys s0)[t0]? = some (zk_dA s0 t0, ty)) (hn : x.1 = n) (d : decode cc pc = .ok (.arraylength, 1)) (k : W p l e R s m args below meth c H locs cells slots Q (F0 m (pc + 1) ls (.int (nI n) :: rest))) : W p l e R s m args below meth c H locs cells slots Q (F0 m pc ls (.ref o :: rest)) := by
  subst hn
  exact va_alen hx hb hK hP q0 t0 ha ht rfl d k
theorem zb_if_eq (hx : p.tables.exec = Jvm.exec) (hb : c.code = cc) {off : Int} {tgt : Nat} {v : Bool} (d : decode cc pc = .ok (.ifCond .eq off, 3)) (ht : (pc : Int) + off = (tgt : Int)) (kt : v = false → W p l e R s m args below meth c H locs cells slots Q (F0 m tgt ls (rest))) (kf : v = true → W p l e R s m args below meth c H locs cells slots Q (F0 m (pc + 3) ls (rest))) : W p l e R s m args below meth c H locs cells slots Q (F0 m pc ls (.int (nI (Bool.toNat v)) :: rest)) := by
  cases v
  · exact lv_if_eq hx hb d ht (fun _ => kt rfl) (fun h => absurd (by decide) h)
  · exact lv_if_eq hx hb d ht (fun h => absurd h (by decide)) (fun _ => kf rfl)
theorem zb_if_ne (hx : p.tables.exec = Jvm.exec) (hb : c.code = cc) {off : Int} {tgt : Nat} {v : Bool} (d : decode cc pc = .ok (.ifCond .ne off, 3)) (ht : (pc : Int) + off = (tgt : Int)) (kt : v = true → W p l e R s m args below meth c H locs cells slots Q (F0 m tgt ls (rest))) (kf : v = false → W p l e R s m args below meth c H locs cells slots Q (F0 m (pc + 3) ls (rest))) : W p l e R s m args below meth c H locs cells slots Q (F0 m pc ls (.int (nI (Bool.toNat v)) :: rest)) := by
  cases v
  · exact lv_if_ne hx hb d ht (fun h => absurd (by decide) h) (fun _ => kf rfl)
  · exact lv_if_ne hx hb d ht (fun _ => kt rfl) (fun h => absurd h (by decide))
/-- 'x > 0' of a kind of exception, 0 or 1 -/
theorem zb_if_le (hx : p.tables.exec = Jvm.exec) (hb : c.code = cc) {off : Int} {tgt : Nat} {v : Bool} (d : decode cc pc = .ok (.ifCond .le off, 3)) (ht : (pc : Int) + off = (tgt : Int)) (kt : v = true → W p l e R s m args below meth c H locs cells slots Q (F0 m tgt ls (rest))) (kf : v = false → W p l e R s m args below meth c H locs cells slots Q (F0 m (pc + 3) ls (rest))) : W p l e R s m args below meth c H locs cells slots Q (F0 m pc ls (.int (nI (Bool.toNat (!v))) :: rest)) := by
  cases v
  · exact lv_if_le hx hb d ht (fun h => absurd h (by decide)) (fun _ => kf rfl)
  · exact lv_if_le hx hb d ht (fun _ => kt rfl) (fun h => absurd (by decide) h)
end ZN
theorem zb_nar (v : Bool) : narrow .boolean (.int (nI (Bool.toNat v))) = .int (nI (Bool.toNat v)) := by cases v <;> rfl
/-- in a range of naturals; an index of n things -/
def zk_in (x : Int32) (lo hi : Nat) : Bool := decide (nI lo ≤ x ∧ x ≤ nI hi)
def zk_ix (x : Int32) (n : Nat) : Bool := decide (nI 0 ≤ x ∧ x < nI n)
theorem zk_in_of {x : Int32} {lo hi : Nat} (h : zk_in x lo hi = true) (hh : hi < 2 ^ 31) (hl : lo ≤ hi) : ∃ j : Nat, lo ≤ j ∧ j ≤ hi ∧ x = nI j := by
  obtain ⟨h1, h2⟩ := of_decide_eq_true h
  have hlo : lo < 2 ^ 31 := by omega
  have h1' := Int32.le_iff_toInt_le.mp h1
  have h2' := Int32.le_iff_toInt_le.mp h2
  rw [nI_toInt hlo] at h1'
  rw [nI_toInt hh] at h2'
  refine ⟨x.toInt.toNat, by omega, by omega, ?_⟩
  apply Int32.toInt_inj.mp
  rw [nI_toInt (by omega)]
  omega
theorem zk_in_nI {j lo hi : Nat} (hj : j < 2 ^ 31) (hh : hi < 2 ^ 31) (hl : lo ≤ hi) : zk_in (nI j) lo hi = decide (lo ≤ j ∧ j ≤ hi) := by
  unfold zk_in
  exact decide_eq_decide.mpr (and_congr (nI_leI (by omega) hj) (nI_leI hj hh))
theorem zk_ix_of {x : Int32} {n : Nat} (h : zk_ix x n = true) (hh : n < 2 ^ 31) : ∃ j : Nat, j < n ∧ x = nI j := by
  obtain ⟨h1, h2⟩ := of_decide_eq_true h
  have h1' := Int32.le_iff_toInt_le.mp h1
  have h2' := Int32.lt_iff_toInt_lt.mp h2
  rw [nI_toInt (by omega)] at h1'
  rw [nI_toInt hh] at h2'
  refine ⟨x.toInt.toNat, by omega, ?_⟩
  apply Int32.toInt_inj.mp
  rw [nI_toInt (by omega)]
  omega
theorem zk_ix_nI {j n : Nat} (hj : j < 2 ^ 31) (hh : n < 2 ^ 31) : zk_ix (nI j) n = decide (j < n) := by
  unfold zk_ix
  refine decide_eq_decide.mpr ((and_congr (nI_leI (by omega) hj) (nI_ltI hj hh)).trans ?_)
  omega
theorem zk_ix_in {x : Int32} {n : Nat} (hh : n < 2 ^ 31) : decide (nI 0 ≤ x ∧ x ≤ nI n - nI 1) = zk_ix x n := by
  unfold zk_ix
  apply decide_eq_decide.mpr
  rw [Int32.le_iff_toInt_le, Int32.le_iff_toInt_le, Int32.lt_iff_toInt_lt, nI_toInt (by omega), nI_toInt hh]
  rcases Nat.eq_zero_or_pos n with h | h
  · subst h
    rw [show (nI 0 - nI 1).toInt = -1 by decide]
    omega
  · rw [pk_sub (by omega), nI_toInt (by omega)]
    omega
theorem zb_T {e : Bool} (h : e = true) : (some (Value.int (nI 1)) : Option Value) = some (.int (nI (Bool.toNat e))) := by subst h; rfl
theorem zb_N {e : Bool} (h : e = false) : (some (Value.int (nI 0)) : Option Value) = some (.int (nI (Bool.toNat e))) := by subst h; rfl
theorem zk_eqr {x y : Nat} (h : x = y) : (some (Value.int (nI x)) : Option Value) = some (.int (nI y)) := by rw [h]
/-- cells of a world, taken by their places -/
theorem zk_pi {ws ws' : va_W} (n : Nat) (is : List Nat) (h : is.map (fun i => ws[i]?) = ws'.map some) (hl : ws.length = n) (hp : is.Perm (List.range n)) : ws.Perm ws' := by
  subst hl
  have h1 : (is.map (fun i => ws[i]?)).Perm ((List.range ws.length).map (fun i => ws[i]?)) := hp.map _
  have h2 : (List.range ws.length).map (fun i => ws[i]?) = ws.map some := by
    apply List.ext_getElem?
    intro i
    by_cases hi : i < ws.length
    · simp [hi]
    · simp [hi]
  rw [h, h2] at h1
  have h3 : ws'.Perm ws := by
    have := h1.filterMap id
    simpa using this
  exact h3.symm
theorem zb_nl {p q : Bool} (h : p = false) : ¬ (p && q) = true := by rw [h]; simp
theorem zb_nr {p q : Bool} (h : q = false) : ¬ (p && q) = true := by rw [h]; simp
