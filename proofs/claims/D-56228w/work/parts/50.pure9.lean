/-! FLOATING POINT: a quotient of small whole numbers is a number; ends -/
set_option maxRecDepth 100000
theorem zf_fields (f : FP.Core.Fmt) (s : Bool) {e t : Nat} (he : e < f.exps) (ht : t < f.tails) : FP.Core.fieldE f (FP.Core.assemble f s e t) = e ∧ FP.Core.fieldT f (FP.Core.assemble f s e t) = t := by
  have hT : 0 < f.tails := Nat.lt_of_le_of_lt (Nat.zero_le _) ht
  have h1 : FP.Core.assemble f s e t / f.tails = s.toNat * f.exps + e := by
    unfold FP.Core.assemble
    rw [Nat.mul_comm, Nat.mul_add_div hT, Nat.div_eq_of_lt ht, Nat.add_zero]
  constructor
  · unfold FP.Core.fieldE
    rw [h1, Nat.mul_comm, Nat.mul_add_mod, Nat.mod_eq_of_lt he]
  · unfold FP.Core.fieldT FP.Core.assemble
    rw [Nat.mul_comm, Nat.mul_add_mod, Nat.mod_eq_of_lt ht]
/-- a result of rounding: an infinity or a number of the format -/
def zf_R (f : FP.Core.Fmt) (d : FP.Core.Datum) : Prop := (∃ s, d = .inf s) ∨ ∃ s c q, d = .fin s c q ∧ c < 2 * f.tails ∧ f.qmin ≤ q ∧ q ≤ f.qmax
/-- what a format must be -/
def zf_F (f : FP.Core.Fmt) : Prop := 2 ^ f.p = 2 * f.tails ∧ 1 < f.tails ∧ 2 < f.exps ∧ f.qmax - f.qmin + 3 = f.exps ∧ f.qmin ≤ 0 ∧ 1 ≤ f.qmax ∧ f.qmin ≤ 1 - (f.p : Int) ∧ 2 ≤ f.p
theorem zf_F32 : zf_F FP.Core.b32 := by unfold zf_F; decide
theorem zf_F64 : zf_F FP.Core.b64 := by unfold zf_F; decide
theorem zf_enc {f : FP.Core.Fmt} (hf : zf_F f) {d : FP.Core.Datum} (h : zf_R f d) : ∃ s e t, FP.Core.encode f d = FP.Core.assemble f s e t ∧ e < f.exps ∧ t < f.tails ∧ (e = f.exps - 1 → t = 0) ∧ (∀ s' c q, d = .fin s' c q → e ≠ f.exps - 1 ∧ (c ≠ 0 → e ≠ 0 ∨ t ≠ 0)) := by
  obtain ⟨f1, f2, f3, f4, f5, f6⟩ := hf
  rcases h with ⟨s, rfl⟩ | ⟨s, c, q, rfl, hc, h1, h2⟩
  · exact ⟨s, f.exps - 1, 0, rfl, by omega, by omega, fun _ => rfl, fun s' c q z => by cases z⟩
  · unfold FP.Core.encode
    by_cases hcl : c < f.tails
    · refine ⟨s, 0, c, if_pos hcl, by omega, hcl, fun z => by omega, fun s' c' q' z => ?_⟩
      cases z
      exact ⟨by omega, fun z => Or.inr z⟩
    · refine ⟨s, (q - f.qmin).toNat + 1, c - f.tails, if_neg hcl, by omega, by omega, fun z => by omega, fun s' c' q' z => ?_⟩
      cases z
      exact ⟨by omega, fun z => Or.inl (by omega)⟩
theorem zf_dec {f : FP.Core.Fmt} (hf : zf_F f) {d : FP.Core.Datum} (h : zf_R f d) : FP.Core.decode f (FP.Core.encode f d) ≠ .nan ∧ (∀ s' c q, d = .fin s' c q → c ≠ 0 → ∃ s c q, FP.Core.decode f (FP.Core.encode f d) = .fin s c q ∧ c ≠ 0) := by
  obtain ⟨s, e, t, e1, he, ht, h1, h2⟩ := zf_enc hf h
  obtain ⟨g1, g2⟩ := zf_fields f s he ht
  obtain ⟨f1, f2, f3, f4, f5, f6⟩ := hf
  rw [e1]
  unfold FP.Core.decode
  rw [g1, g2]
  constructor
  · by_cases hE : e = f.exps - 1
    · rw [if_pos hE, if_pos (h1 hE)]; intro z; cases z
    · rw [if_neg hE]; split <;> (intro z; cases z)
  · intro s' c q hd hc
    obtain ⟨n1, n2⟩ := h2 s' c q hd
    rw [if_neg n1]
    by_cases h0 : e = 0
    · rw [if_pos h0]
      exact ⟨_, _, _, rfl, by have := n2 hc; omega⟩
    · rw [if_neg h0]
      exact ⟨_, _, _, rfl, by omega⟩
theorem zf_settle {f : FP.Core.Fmt} (hf : zf_F f) {s : Bool} {c : Nat} {q : Int} (hq : f.qmin ≤ q) : zf_R f (FP.Core.settle f s c q) := by
  obtain ⟨f1, f2, f3, f4, f5, f6⟩ := hf
  unfold FP.Core.settle FP.Core.bound
  split
  · next h =>
    split
    · next h2 => exact Or.inr ⟨s, c, q, rfl, by omega, hq, h2⟩
    · exact Or.inl ⟨s, rfl⟩
  · split
    · next h2 => exact Or.inr ⟨s, _, q + 1, rfl, by omega, by omega, h2⟩
    · exact Or.inl ⟨s, rfl⟩
theorem zf_ratio {f : FP.Core.Fmt} (hf : zf_F f) {s : Bool} {A B : Nat} {e : Int} : zf_R f (FP.Core.roundRatio f s A B e) := by
  unfold FP.Core.roundRatio
  split
  · exact Or.inr ⟨s, 0, f.qmin, rfl, by have := hf.2.1; omega, Int.le_refl _, by obtain ⟨f1, f2, f3, f4, f5, f6, f7⟩ := hf; omega⟩
  · unfold FP.Core.roundAt
    refine zf_settle hf ?_
    unfold FP.Core.quantum
    exact Int.le_max_left _ _
/-- a positive whole number that the format holds -/
theorem zf_whole {f : FP.Core.Fmt} (hf : zf_F f) {d : Nat} (hd : d < 2 ^ f.p) (h0 : 0 < d) : ∃ s c q, FP.Core.round f (.fin false d 0) = .fin s c q ∧ c ≠ 0 := by
  obtain ⟨f1, f2, f3, f4, f5, f6, f7, f8⟩ := hf
  have hlog : d.log2 < f.p := (Nat.log2_lt (by omega)).mpr hd
  have hl : FP.Core.leading d 1 ≤ (d.log2 : Int) := by
    unfold FP.Core.leading
    have h1 : (1 : Nat).log2 = 0 := by decide
    rw [h1]
    simp only
    split <;> omega
  have hq : FP.Core.quantum f d 1 0 ≤ 0 := by
    unfold FP.Core.quantum
    omega
  show ∃ s c q, FP.Core.roundRatio f false d 1 0 = .fin s c q ∧ c ≠ 0
  unfold FP.Core.roundRatio
  rw [if_neg (by omega)]
  unfold FP.Core.roundAt
  have hu : FP.Core.unitsDen 1 0 (FP.Core.quantum f d 1 0) = 1 := by
    unfold FP.Core.unitsDen
    rw [show (FP.Core.quantum f d 1 0 - 0).toNat = 0 by omega]
  have hn : FP.Core.nearest (FP.Core.unitsNum d 0 (FP.Core.quantum f d 1 0)) 1 = FP.Core.unitsNum d 0 (FP.Core.quantum f d 1 0) := by
    unfold FP.Core.nearest
    rw [Nat.mod_one, if_pos (by omega), Nat.div_one]
  rw [hu, hn]
  have hpos : FP.Core.unitsNum d 0 (FP.Core.quantum f d 1 0) ≠ 0 := by
    unfold FP.Core.unitsNum
    have := Nat.mul_pos h0 (Nat.two_pow_pos (0 - FP.Core.quantum f d 1 0).toNat)
    omega
  unfold FP.Core.settle FP.Core.bound
  split
  · rw [if_pos (by omega)]; exact ⟨_, _, _, rfl, hpos⟩
  · rw [if_pos (by omega)]; exact ⟨_, _, _, rfl, by omega⟩
theorem zf_q {f : FP.Core.Fmt} (hf : zf_F f) {c d : Nat} (hd : d < 2 ^ f.p) (h0 : 0 < d) : zf_R f (FP.Core.quotient f (FP.Core.decode f (FP.Core.encode f (FP.Core.round f (.fin false c 0)))) (FP.Core.decode f (FP.Core.encode f (FP.Core.round f (.fin false d 0))))) := by
  obtain ⟨s1, c1, q1, e1, e2⟩ := zf_whole hf hd h0
  obtain ⟨s, d', q', e3, e4⟩ := (zf_dec hf (zf_ratio hf (s := false) (A := d) (B := 1) (e := 0))).2 s1 c1 q1 e1 e2
  have e3 : FP.Core.decode f (FP.Core.encode f (FP.Core.round f (.fin false d 0))) = .fin s d' q' := e3
  rw [e3]
  have hx : FP.Core.decode f (FP.Core.encode f (FP.Core.round f (.fin false c 0))) ≠ .nan := (zf_dec hf (zf_ratio hf (s := false) (A := c) (B := 1) (e := 0))).1
  generalize FP.Core.decode f (FP.Core.encode f (FP.Core.round f (.fin false c 0))) = x at hx
  cases x with
  | nan => exact absurd rfl hx
  | inf s2 => exact Or.inl ⟨_, rfl⟩
  | fin s2 c2 q2 =>
    unfold FP.Core.quotient
    simp only [if_neg e4]
    exact zf_ratio hf
theorem zf_ofInt {n : Nat} : FP.Core.ofInt (n : Int) = .fin false n 0 := by
  unfold FP.Core.ofInt
  rw [decide_eq_false (by omega), Int.natAbs_natCast]
theorem zf_mag {f : FP.Core.Fmt} (hf : zf_F f) {d : FP.Core.Datum} (h : zf_R f d) : FP.Core.encode f d < 2 * (f.exps * f.tails) ∧ FP.Core.encode f d % (f.exps * f.tails) ≤ (f.exps - 1) * f.tails := by
  obtain ⟨s, e, t, e1, he, ht, h1, -⟩ := zf_enc hf h
  obtain ⟨f1, f2, f3, f4, f5, f6⟩ := hf
  rw [e1]
  unfold FP.Core.assemble
  have h3 : (s.toNat * f.exps + e) * f.tails + t = f.exps * f.tails * s.toNat + (e * f.tails + t) := by
    rw [Nat.add_mul, Nat.add_assoc, Nat.mul_assoc, Nat.mul_comm s.toNat]
  have h4 : e * f.tails + f.tails ≤ f.exps * f.tails := by
    rw [← Nat.succ_mul]
    exact Nat.mul_le_mul_right _ he
  have h5 : e * f.tails + t ≤ (f.exps - 1) * f.tails := by
    by_cases hE : e = f.exps - 1
    · rw [h1 hE, hE]; exact Nat.le_refl _
    · have : (e + 1) * f.tails ≤ (f.exps - 1) * f.tails := Nat.mul_le_mul_right _ (by omega)
      rw [Nat.succ_mul] at this
      omega
  rw [h3]
  constructor
  · have : f.exps * f.tails * s.toNat ≤ f.exps * f.tails * 1 := Nat.mul_le_mul_left _ (by cases s <;> decide)
    omega
  · rw [Nat.mul_add_mod, Nat.mod_eq_of_lt (by omega)]
    exact h5
theorem zf_and (r k : Nat) : r &&& (2 ^ k - 1) = r % 2 ^ k := Nat.and_two_pow_sub_one_eq_mod r k
theorem zf_u32 {d : FP.Core.Datum} (h : zf_R FP.Core.b32 d) : (UInt32.ofNat (FP.Core.encode FP.Core.b32 d)).toNat = FP.Core.encode FP.Core.b32 d := by
  have h1 := (zf_mag zf_F32 h).1
  have h2 : 2 * (FP.Core.b32.exps * FP.Core.b32.tails) = 2 ^ 32 := by decide
  rw [UInt32.toNat_ofNat']
  exact Nat.mod_eq_of_lt (by omega)
theorem zf_u64 {d : FP.Core.Datum} (h : zf_R FP.Core.b64 d) : (UInt64.ofNat (FP.Core.encode FP.Core.b64 d)).toNat = FP.Core.encode FP.Core.b64 d := by
  have h1 := (zf_mag zf_F64 h).1
  have h2 : 2 * (FP.Core.b64.exps * FP.Core.b64.tails) = 2 ^ 64 := by decide
  rw [UInt64.toNat_ofNat']
  exact Nat.mod_eq_of_lt (by omega)
theorem zf_n32 {d : FP.Core.Datum} (h : zf_R FP.Core.b32 d) : vf_n32 (UInt32.ofNat (FP.Core.encode FP.Core.b32 d)) := by
  have h1 := (zf_mag zf_F32 h).2
  have h2 : FP.Core.b32.exps * FP.Core.b32.tails = 2 ^ 31 := by decide
  have h3 : (FP.Core.b32.exps - 1) * FP.Core.b32.tails = 0x7f800000 := by decide
  rw [h2, h3] at h1
  unfold vf_n32
  rw [UInt32.le_iff_toNat_le, UInt32.toNat_and, zf_u32 h]
  show FP.Core.encode FP.Core.b32 d &&& (2 ^ 31 - 1) ≤ 0x7f800000
  rw [zf_and]
  exact h1
theorem zf_n64 {d : FP.Core.Datum} (h : zf_R FP.Core.b64 d) : vf_n64 (UInt64.ofNat (FP.Core.encode FP.Core.b64 d)) := by
  have h1 := (zf_mag zf_F64 h).2
  have h2 : FP.Core.b64.exps * FP.Core.b64.tails = 2 ^ 63 := by decide
  have h3 : (FP.Core.b64.exps - 1) * FP.Core.b64.tails = 0x7ff0000000000000 := by decide
  rw [h2, h3] at h1
  unfold vf_n64
  rw [UInt64.le_iff_toNat_le, UInt64.toNat_and, zf_u64 h]
  show FP.Core.encode FP.Core.b64 d &&& (2 ^ 63 - 1) ≤ 0x7ff0000000000000
  rw [zf_and]
  exact h1
theorem zf_d {c d : Nat} (hc : c < 2 ^ 24) (hd : d < 2 ^ 24) (h0 : 0 < d) : vf_n64 (FP.ddiv (FP.i2d (nI c)) (FP.i2d (nI d))) := by
  show vf_n64 (UInt64.ofNat (FP.Core.encode FP.Core.b64 (FP.Core.quotient FP.Core.b64 (FP.Core.decode FP.Core.b64 (UInt64.ofNat (FP.Core.encode FP.Core.b64 (FP.Core.round FP.Core.b64 (FP.Core.ofInt (nI c).toInt)))).toNat) (FP.Core.decode FP.Core.b64 (UInt64.ofNat (FP.Core.encode FP.Core.b64 (FP.Core.round FP.Core.b64 (FP.Core.ofInt (nI d).toInt)))).toNat))))
  rw [nI_toInt (by omega), nI_toInt (by omega), zf_ofInt, zf_ofInt, zf_u64 (d := FP.Core.round FP.Core.b64 (.fin false c 0)) (zf_ratio zf_F64 (s := false) (A := c) (B := 1) (e := 0)), zf_u64 (d := FP.Core.round FP.Core.b64 (.fin false d 0)) (zf_ratio zf_F64 (s := false) (A := d) (B := 1) (e := 0))]
  exact zf_n64 (zf_q zf_F64 (Nat.lt_of_lt_of_le hd (by decide)) h0)
theorem zf_f {c d : Nat} (hc : c < 2 ^ 24) (hd : d < 2 ^ 24) (h0 : 0 < d) : vf_n32 (FP.fdiv (FP.i2f (nI c)) (FP.i2f (nI d))) := by
  show vf_n32 (UInt32.ofNat (FP.Core.encode FP.Core.b32 (FP.Core.quotient FP.Core.b32 (FP.Core.decode FP.Core.b32 (UInt32.ofNat (FP.Core.encode FP.Core.b32 (FP.Core.round FP.Core.b32 (FP.Core.ofInt (nI c).toInt)))).toNat) (FP.Core.decode FP.Core.b32 (UInt32.ofNat (FP.Core.encode FP.Core.b32 (FP.Core.round FP.Core.b32 (FP.Core.ofInt (nI d).toInt)))).toNat))))
  rw [nI_toInt (by omega), nI_toInt (by omega), zf_ofInt, zf_ofInt, zf_u32 (d := FP.Core.round FP.Core.b32 (.fin false c 0)) (zf_ratio zf_F32 (s := false) (A := c) (B := 1) (e := 0)), zf_u32 (d := FP.Core.round FP.Core.b32 (.fin false d 0)) (zf_ratio zf_F32 (s := false) (A := d) (B := 1) (e := 0))]
  exact zf_n32 (zf_q zf_F32 (Nat.lt_of_lt_of_le hd (by decide)) h0)
theorem zf_l2f {n : Nat} (h : n < 2 ^ 31) : FP.l2f (lN n) = FP.i2f (nI n) := by
  show UInt32.ofNat (FP.Core.fromInt FP.Core.b32 (lN n).toInt) = UInt32.ofNat (FP.Core.fromInt FP.Core.b32 (nI n).toInt)
  rw [lN_toInt h, nI_toInt h]
section ZFR
variable {p : Program} {l : Launch} {e : Env} {R : Room} {s : State} {m : MethodId} {args : Array Value} {below : List Frame} {meth : Method} {c : Code} {H : Heap} {locs : List Loc} {cells slots : Nat} {Q : State → Prop}
variable {cc : ByteArray} {pc nL : Nat} {ls : Array Slot} {s0 : State} {b : Nat} {A : Nat → Prop} {ret : Option FieldType} {own nm : String} {post : Option Value → va_W → Prop} {mc ms : Nat}
theorem zk_retd (fx : zk_Fx s0 b p s m args meth c cc nL ret own nm A) (eQ : Q = MQ below (zk_Q s0 post A) args s mc ms A) {w1 : va_W} {v : UInt64} (hr : ret = some .double) (hP : va_P (zk_D s0) zk_Cl w1 H) (hD : va_D A w1) (hS : va_S A s.heap H locs) (hc : cells ≤ mc) (hs : slots ≤ ms) (d : decode cc pc = .ok (.dreturn, 1)) (hp : post (some (.double v)) w1) :
    W p l e R s m args below meth c H locs cells slots Q (F0 m pc ls [.double v]) := by
  obtain ⟨hx, hb, hml, hown, hts, hret, hlk, -, hG, hA⟩ := fx
  subst eQ
  refine W.widen hc hs ?_
  exact W.dret (v := v) hx hb (hret.trans hr) (fun t ht hW => ⟨⟨_, _, rfl, hp, by rw [ht]; exact hP, hD⟩, hS.F ht⟩) hS.2.2 d hlk
theorem zk_retf (fx : zk_Fx s0 b p s m args meth c cc nL ret own nm A) (eQ : Q = MQ below (zk_Q s0 post A) args s mc ms A) {w1 : va_W} {v : UInt32} (hr : ret = some .float) (hP : va_P (zk_D s0) zk_Cl w1 H) (hD : va_D A w1) (hS : va_S A s.heap H locs) (hc : cells ≤ mc) (hs : slots ≤ ms) (d : decode cc pc = .ok (.freturn, 1)) (hp : post (some (.float v)) w1) :
    W p l e R s m args below meth c H locs cells slots Q (F0 m pc ls [.float v]) := by
  obtain ⟨hx, hb, hml, hown, hts, hret, hlk, -, hG, hA⟩ := fx
  subst eQ
  refine W.widen hc hs ?_
  exact W.fret (v := v) hx hb (hret.trans hr) (fun t ht hW => ⟨⟨_, _, rfl, hp, by rw [ht]; exact hP, hD⟩, hS.F ht⟩) hS.2.2 d hlk
end ZFR
/-- the mean run; the faded share -/
def zf_mean (σ : Nat → Nat) : UInt64 := if σ 0 = 0 then FP.dconst0 else FP.ddiv (FP.i2d (nI (zp_runs σ (σ 0)))) (FP.i2d (nI (σ 0)))
def zf_share (σ : Nat → Nat) : UInt32 := if σ 6 = 0 then FP.fconst0 else FP.fdiv (FP.i2f (nI (σ 18))) (FP.i2f (nI (σ 6)))
theorem zp_runs_le {σ : Nat → Nat} (ok : zp_Ok σ) : ∀ k, k ≤ σ 0 → zp_runs σ k ≤ 50 * k := by
  intro k
  induction k with
  | zero => intro _; exact Nat.le_refl _
  | succ k ih =>
    intro hk
    have h1 := ok.2.2.2.2.2.2.2.2.1 k (by omega)
    have h2 := ih (by omega)
    rw [zp_runs]
    omega
