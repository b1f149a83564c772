/-! BASE: one class list, one start, contracts over worlds (zk_) -/
set_option maxRecDepth 100000
/-- the classes whose objects the worlds hold -/
abbrev zk_Cl : List vw_C := [(RX7, TX7, 25), (RX1, TX1, 11), (RX2, TX2, 15), (RX4, (fun _ => ("", "", "", false)), 0), (RX5, TX5, 1), (RX8, TX8, 3), (RX9, TX9, 4), (RX6, TX6, 3), (RX11, TX11, 3), (RX10, TX10, 7), (RJ1, TJ1, 3), (RJ12, TJ12, 4), (RJ38, TJ38, 3), (RJ40, TJ40, 5), (RJ3, TJ3, 4), (RJ4, TJ4, 4)]
/-- the arrays' element types -/
abbrev zk_ty : List FieldType := [.int, .byte, .object "java/lang/Object", .object "InkPrintery$Fading", .object "InkPrintery$Edition", .array .int, .long, .double]
def zk_dA (s0 : State) (t : Nat) : ClassId := (s0.vm.findClass ("[" ++ ((zk_ty[t]?).getD .int).toString)).getD 0
abbrev zk_tys (s0 : State) : List (ClassId × FieldType) := [(zk_dA s0 0, .int), (zk_dA s0 1, .byte), (zk_dA s0 2, .object "java/lang/Object"), (zk_dA s0 3, .object "InkPrintery$Fading"), (zk_dA s0 4, .object "InkPrintery$Edition"), (zk_dA s0 5, .array .int), (zk_dA s0 6, .long), (zk_dA s0 7, .double)]
/-- what the claim's start gives -/
def zk_Go (s0 : State) (b : Nat) : Prop := (∀ w ∈ lw_tbl, w.before #[Value.ref b] s0 = true) ∧ (Jvm.Cond.and given_1 narrow_1).before #[Value.ref b] s0 = true ∧ modulesRight_1 s0 = true
theorem zk_exD {s0 : State} {b : Nat} (h : zk_Go s0 b) : ∃ D : va_G, ∀ (c : Nat) (q : vw_C), zk_Cl[c]? = some q → u_Kn s0 q.1 q.2.1 q.2.2 (D.1 c) (D.2 c) := by
  have ht := h.1
  obtain ⟨a0, i0, k0⟩ := u_known (C := RX7) (T := TX7) (N := 25) (n := 25) ht (fun w h => lw_all_tbl (in_X7 w h)) (ht _ (lw_all_tbl q2236))
  obtain ⟨a1, i1, k1⟩ := u_known (C := RX1) (T := TX1) (N := 11) (n := 11) ht (fun w h => lw_all_tbl (in_X1 w h)) (ht _ (lw_all_tbl q141))
  obtain ⟨a2, i2, k2⟩ := u_known (C := RX2) (T := TX2) (N := 15) (n := 15) ht (fun w h => lw_all_tbl (in_X2 w h)) (ht _ (lw_all_tbl q149))
  obtain ⟨a3, i3, k3⟩ := u_known (C := RX4) (T := fun _ => ("", "", "", false)) (N := 0) (n := 0) ht (fun w h => by cases h) (ht _ (lw_all_tbl q162))
  obtain ⟨a4, i4, k4⟩ := u_known (C := RX5) (T := TX5) (N := 1) (n := 1) ht (fun w h => lw_all_tbl (in_X5 w h)) (ht _ (lw_all_tbl q169))
  obtain ⟨a5, i5, k5⟩ := u_known (C := RX8) (T := TX8) (N := 3) (n := 3) ht (fun w h => lw_all_tbl (in_X8 w h)) (ht _ (lw_all_tbl q598))
  obtain ⟨a6, i6, k6⟩ := u_known (C := RX9) (T := TX9) (N := 4) (n := 4) ht (fun w h => lw_all_tbl (in_X9 w h)) (ht _ (lw_all_tbl q632))
  obtain ⟨a7, i7, k7⟩ := u_known (C := RX6) (T := TX6) (N := 3) (n := 3) ht (fun w h => lw_all_tbl (in_X6 w h)) (ht _ (lw_all_tbl q384))
  obtain ⟨a8, i8, k8⟩ := u_known (C := RX11) (T := TX11) (N := 3) (n := 3) ht (fun w h => lw_all_tbl (in_X11 w h)) (ht _ (lw_all_tbl q1812))
  obtain ⟨a9, i9, k9⟩ := u_known (C := RX10) (T := TX10) (N := 7) (n := 7) ht (fun w h => lw_all_tbl (in_X10 w h)) (ht _ (lw_all_tbl q1793))
  obtain ⟨a10, i10, k10⟩ := u_known (C := RJ1) (T := TJ1) (N := 3) (n := 3) ht (fun w h => lw_all_tbl (in_J1 w h)) (ht _ (lw_all_tbl q242))
  obtain ⟨a11, i11, k11⟩ := u_known (C := RJ12) (T := TJ12) (N := 4) (n := 4) ht (fun w h => lw_all_tbl (in_J12 w h)) (ht _ (lw_all_tbl q390))
  obtain ⟨a12, i12, k12⟩ := u_known (C := RJ38) (T := TJ38) (N := 3) (n := 3) ht (fun w h => lw_all_tbl (in_J38 w h)) (ht _ (lw_all_tbl q1861))
  obtain ⟨a13, i13, k13⟩ := u_known (C := RJ40) (T := TJ40) (N := 5) (n := 5) ht (fun w h => lw_all_tbl (in_J40 w h)) (ht _ (lw_all_tbl q1921))
  obtain ⟨a14, i14, k14⟩ := u_known (C := RJ3) (T := TJ3) (N := 4) (n := 4) ht (fun w h => lw_all_tbl (in_J3 w h)) (ht _ (lw_all_tbl q263))
  obtain ⟨a15, i15, k15⟩ := u_known (C := RJ4) (T := TJ4) (N := 4) (n := 4) ht (fun w h => lw_all_tbl (in_J4 w h)) (ht _ (lw_all_tbl q1095))
  refine ⟨(fun k => [a0, a1, a2, a3, a4, a5, a6, a7, a8, a9, a10, a11, a12, a13, a14, a15].getD k 0, fun k => [i0, i1, i2, i3, i4, i5, i6, i7, i8, i9, i10, i11, i12, i13, i14, i15].getD k (fun _ => 0)), ?_⟩
  intro k q hq
  match k, hq with
  | 0, hq => cases hq; exact k0
  | 1, hq => cases hq; exact k1
  | 2, hq => cases hq; exact k2
  | 3, hq => cases hq; exact k3
  | 4, hq => cases hq; exact k4
  | 5, hq => cases hq; exact k5
  | 6, hq => cases hq; exact k6
  | 7, hq => cases hq; exact k7
  | 8, hq => cases hq; exact k8
  | 9, hq => cases hq; exact k9
  | 10, hq => cases hq; exact k10
  | 11, hq => cases hq; exact k11
  | 12, hq => cases hq; exact k12
  | 13, hq => cases hq; exact k13
  | 14, hq => cases hq; exact k14
  | 15, hq => cases hq; exact k15
  | k + 16, hq => simp [zk_Cl] at hq
noncomputable def zk_D (s0 : State) : va_G := @dite _ (∃ D : va_G, ∀ (c : Nat) (q : vw_C), zk_Cl[c]? = some q → u_Kn s0 q.1 q.2.1 q.2.2 (D.1 c) (D.2 c)) (Classical.propDecidable _) (fun h => h.choose) (fun _ => (fun _ => 0, fun _ _ => 0))
theorem zk_D_ok {s0 : State} {b : Nat} (h : zk_Go s0 b) : ∀ (c : Nat) (q : vw_C), zk_Cl[c]? = some q → u_Kn s0 q.1 q.2.1 q.2.2 ((zk_D s0).1 c) ((zk_D s0).2 c) := by
  have hE := zk_exD h
  have e : zk_D s0 = hE.choose := dif_pos hE
  rw [e]
  exact hE.choose_spec
theorem zk_arrP {s0 : State} {a : Array Value} {t : Nat} {ty : FieldType} (ht : (zk_ty[t]?).getD .int = ty) (hn : ∀ C, ty ≠ .object C) (h : (Cond.arrayClass ty).before a s0 = true) : ArrOfT s0 (zk_dA s0 t) ty ∧ va_RA s0 (zk_dA s0 t) ty := by
  obtain ⟨c, k, comp, h1, h2, h3⟩ := Cond.arrayClass_spec h
  have e : zk_dA s0 t = c := by unfold zk_dA; rw [ht, h1]; rfl
  rw [e]
  refine ⟨fun n z => ⟨fun k h => (by cases h), k, h2, comp, h3⟩, ?_⟩
  unfold va_RA
  split
  · exact absurd rfl (hn _)
  · exact h1
theorem zk_arrO {s0 : State} {a : Array Value} {t : Nat} {C : String} (ht : (zk_ty[t]?).getD .int = .object C) (h : (Cond.arrayOver (.object C)).before a s0 = true) : ArrOfT s0 (zk_dA s0 t) (.object C) ∧ va_RA s0 (zk_dA s0 t) (.object C) := by
  obtain ⟨comp, c, k, h1, h2, h3, h4, h5⟩ := Cond.arrayOver_spec h
  have e : zk_dA s0 t = c := by unfold zk_dA; rw [ht, h5]; rfl
  rw [e]
  exact ⟨fun n z => ⟨fun k h => (by cases h), k, h3, comp, h4⟩, k, comp, h3, h4, h1, h5⟩
theorem zk_arrA {s0 : State} {a : Array Value} {t : Nat} {ty : FieldType} (ht : (zk_ty[t]?).getD .int = .array ty) (h : (Cond.arrayOver (.array ty)).before a s0 = true) : ArrOfT s0 (zk_dA s0 t) (.array ty) ∧ va_RA s0 (zk_dA s0 t) (.array ty) := by
  obtain ⟨comp, c, k, h1, h2, h3, h4, h5⟩ := arrayOverA_spec h
  have e : zk_dA s0 t = c := by unfold zk_dA; rw [ht, h5]; rfl
  rw [e]
  exact ⟨fun n z => ⟨fun k h => (by cases h), k, h3, comp, h4⟩, h5⟩
theorem zk_K0 {s0 : State} {b : Nat} (h : zk_Go s0 b) : va_K (zk_D s0) zk_Cl (zk_tys s0) s0 := by
  refine ⟨zk_D_ok h, ?_⟩
  intro k q hq
  match k, hq with
  | 0, hq => cases hq; exact zk_arrP rfl (fun _ h => by cases h) (h.1 _ (lw_all_tbl q168))
  | 1, hq => cases hq; exact zk_arrP rfl (fun _ h => by cases h) (h.1 _ (lw_all_tbl q367))
  | 2, hq => cases hq; exact zk_arrO rfl (h.1 _ q251)
  | 3, hq => cases hq; exact zk_arrO rfl (h.1 _ q155)
  | 4, hq => cases hq; exact zk_arrO rfl (h.1 _ q157)
  | 5, hq => cases hq; exact zk_arrA rfl (h.1 _ q642)
  | 6, hq => cases hq; exact zk_arrP rfl (fun _ h => by cases h) (h.1 _ (lw_all_tbl q2750))
  | 7, hq => cases hq; exact zk_arrP rfl (fun _ h => by cases h) (h.1 _ (lw_all_tbl q2751))
  | k + 8, hq => simp at hq
/-- the start still lies in the heap H, no cell of it in A -/
def zk_G (s0 : State) (b : Nat) (A : Nat → Prop) (U : State) (H : Heap) : Prop := zk_Go s0 b ∧ s0.WarmedH U.vm ∧ (∀ q : Nat, q < s0.heap.size → ¬ A q) ∧ ∀ q : Nat, q < s0.heap.size → H[q]? = s0.heap[q]?
theorem zk_G.K {s0 : State} {b : Nat} {A : Nat → Prop} {U : State} {H : Heap} (h : zk_G s0 b A U H) : va_K (zk_D s0) zk_Cl (zk_tys s0) U := va_K.moved h.2.1.alike (zk_K0 h.1)
theorem zk_G.size {s0 : State} {b : Nat} {A : Nat → Prop} {U : State} {H : Heap} (h : zk_G s0 b A U H) : s0.heap.size ≤ H.size := by
  by_cases hz : s0.heap.size = 0
  · omega
  · have e := h.2.2.2 (s0.heap.size - 1) (by omega)
    have hs : s0.heap[s0.heap.size - 1]? = some (s0.heap[s0.heap.size - 1]'(by omega)) := Array.getElem?_eq_getElem (by omega)
    rw [hs] at e
    have := (Array.getElem?_eq_some_iff.mp e).1
    omega
theorem zk_G.kept {s0 : State} {b : Nat} {A B : Nat → Prop} {U : State} {H H1 : Heap} (h : zk_G s0 b A U H) (hq : ∀ q : Nat, q < H.size → ¬ A q → H1[q]? = H[q]?) (hB : ∀ q, B q → A q) : zk_G s0 b B U H1 :=
  ⟨h.1, h.2.1, fun q hq0 hb => h.2.2.1 q hq0 (hB q hb), fun q hq0 => (hq q (Nat.lt_of_lt_of_le hq0 h.size) (h.2.2.1 q hq0)).trans (h.2.2.2 q hq0)⟩
theorem zk_G.moved {s0 : State} {b : Nat} {A : Nat → Prop} {u U : State} {H : Heap} (hvm : u.WarmedH U.vm) (h : zk_G s0 b A u H) : zk_G s0 b A U H := ⟨h.1, State.WarmedH.trans h.2.1 hvm, h.2.2.1, h.2.2.2⟩
/-- the start of a method: the world w, all else of the start as it was -/
def zk_Pr (s0 : State) (b : Nat) (w : va_W) (sz : Nat) (U : State) : Prop := U.heap.size = sz ∧ va_P (zk_D s0) zk_Cl w U.heap ∧ va_D (fun _ => True) w ∧ zk_G s0 b (va_A w sz) U U.heap
/-- its end: the answer and the new world -/
def zk_Q (s0 : State) (post : Option Value → va_W → Prop) (A : Nat → Prop) : Array Value → State → Outcome → State → Prop := fun _ st oc t => (∃ (v : Option Value) (w1 : va_W), oc = .returned v ∧ post v w1 ∧ va_P (zk_D s0) zk_Cl w1 t.heap ∧ va_D A w1) ∧ va_F A st t
/-- a contract: room (frames, locals), cells and slots made, arguments, world, answer and world behind it -/
def zk_C (l : Launch) (s0 : State) (b : Nat) (y : MethodName) (ws : List Cond) (fr lo mc ms : Nat) (As : List Value) (w : va_W) (post : Option Value → va_W → Prop) : Prop :=
  ∀ sz : Nat, Met l y ws { frames := fr, cells := mc, slots := ms, locals := lo } (va_Pc As (zk_Pr s0 b w sz)) (zk_Q s0 post (va_A w sz)) mc ms (va_A w sz)
/-- where a walk stands: fixed things of one method -/
def zk_Fx (s0 : State) (b : Nat) (p : Program) (s : State) (m : MethodId) (args : Array Value) (meth : Method) (c : Code) (cc : ByteArray) (nL : Nat) (ret : Option FieldType) (own nm : String) (A : Nat → Prop) : Prop :=
  p.tables.exec = Jvm.exec ∧ c.code = cc ∧ c.maxLocals = nL ∧ s.vm.findClass own = some m.cls ∧ (∀ w ∈ lw_all, w.before args s = true) ∧ meth.sig.returnType = ret ∧ meth.locks = false ∧ meth.name = nm ∧ zk_G s0 b A s s.heap ∧ ∀ q : Nat, s.heap.size ≤ q → A q
/-- the room of a method, and what it owes at its end -/
def zk_Rm (R : Room) (fr lo mc ms : Nat) : Prop := R.frames = fr ∧ R.locals = lo ∧ R.cells = mc ∧ R.slots = ms
theorem zk_le {a b c : Nat} (h : c = b) (hle : Nat.ble a b = true) : a ≤ c := by
  rw [h]
  exact Nat.le_of_ble_eq_true hle
theorem zk_mk {l : Launch} {s0 : State} {b : Nat} {y : MethodName} {cc : ByteArray} {nL : Nat} {ret : Option FieldType} {fr lo mc ms : Nat} {As : List Value} {w : va_W} {post : Option Value → va_W → Prop} (hy : plainName y.cls = true) (hlen : Nat.ble (lg_sl As).length nL = true)
    (body : ∀ (p : Program) (e : Env) (s : State) (m : MethodId) (below : List Frame) (meth : Method) (c : Code) (A : Nat → Prop) (R : Room) (args : Array Value) (Q : State → Prop), zk_Fx s0 b p s m args meth c cc nL ret y.cls y.name A → zk_Rm R fr lo mc ms → Q = MQ below (zk_Q s0 post A) args s mc ms A → va_P (zk_D s0) zk_Cl w s.heap → va_D A w → va_S A s.heap s.heap [] → ∀ ls : Array Slot, lv_has ls nL (lv_args 0 As) →
      W p l e R s m args below meth c s.heap [] 0 0 Q (F0 m 0 ls [])) :
    zk_C l s0 b y (ws_ y cc nL ret) fr lo mc ms As w post := by
  intro sz
  refine Met.ofW (cc := cc) (maxL := nL) (ret := ret) hy rfl ?_
  intro p e s m args below meth c s₁ B hml hv
  obtain ⟨rfl, hsz, hP, hD0, hG⟩ := hv
  have hts := atoms_spec (ws := ws_ y cc nL ret) B.pre
  have hts : ∀ w ∈ lw_all, w.before _ s = true := fun w h => hts w (List.mem_cons_of_mem _ h)
  subst hsz
  have hD := hD0.self (sz := s.heap.size)
  rw [lg_entry_eq]
  exact body p e s m below meth c _ _ _ _ ⟨B.exec, B.bytes, hml, findClass_of_methodNamed B.named, hts, B.returns, B.notSynchronized, (name_of_methodNamed B.named B.method).1, hG, fun q h => Or.inr h⟩ ⟨rfl, rfl, rfl, rfl⟩ rfl hP hD va_S.rf _ (lv_entry As (Nat.le_of_ble_eq_true hlen))
