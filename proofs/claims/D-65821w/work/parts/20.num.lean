/-! numbers: everything is nI of a Nat -/
section Num
set_option maxRecDepth 100000
theorem nI_or {a b k : Nat} (hb : b < 2 ^ k) (h : a * 2 ^ k + b < 2 ^ 32) : nI (a * 2 ^ k) ||| nI b = nI (a * 2 ^ k + b) := by
  apply Int32.toBitVec_inj.mp
  rw [Int32.toBitVec_or]
  apply BitVec.eq_of_toNat_eq
  rw [BitVec.toNat_or, pk_tn (by omega), pk_tn (by omega), pk_tn h, ← Nat.shiftLeft_eq, Nat.shiftLeft_add_eq_or_of_lt hb]
theorem lN_tn {n : Nat} (h : n < 2 ^ 64) : (lN n).toBitVec.toNat = n := by
  show (BitVec.ofNat 64 n).toNat = n
  rw [BitVec.toNat_ofNat]
  exact Nat.mod_eq_of_lt h
theorem lN_or {a b k : Nat} (hb : b < 2 ^ k) (h : a * 2 ^ k + b < 2 ^ 64) : lN (a * 2 ^ k) ||| lN b = lN (a * 2 ^ k + b) := by
  apply Int64.toBitVec_inj.mp
  rw [Int64.toBitVec_or]
  apply BitVec.eq_of_toNat_eq
  rw [BitVec.toNat_or, lN_tn (by omega), lN_tn (by omega), lN_tn h, ← Nat.shiftLeft_eq, Nat.shiftLeft_add_eq_or_of_lt hb]
theorem lN_shl {a : Nat} (s : Int64) (k : Nat) (hs : (s.toBitVec.smod 64).toNat = k) (h : a * 2 ^ k < 2 ^ 64) : lN a <<< s = lN (a * 2 ^ k) := by
  apply Int64.toBitVec_inj.mp
  rw [Int64.toBitVec_shiftLeft]
  apply BitVec.eq_of_toNat_eq
  have ha : a < 2 ^ 64 := Nat.lt_of_le_of_lt (Nat.le_mul_of_pos_right a (Nat.two_pow_pos k)) h
  rw [BitVec.shiftLeft_eq', BitVec.toNat_shiftLeft, hs, lN_tn ha, lN_tn h, Nat.shiftLeft_eq]
  exact Nat.mod_eq_of_lt h
/-- a number of 32 bits as a long -/
theorem nI_long {n : Nat} (h : n < 2 ^ 32) : (nI n).toInt64 &&& (4294967295 : Int64) = lN n := by
  apply Int64.toBitVec_inj.mp
  rw [Int64.toBitVec_and]
  apply BitVec.eq_of_getLsbD_eq
  intro i hi
  rw [BitVec.getLsbD_and]
  have e1 : (nI n).toInt64.toBitVec = (nI n).toBitVec.signExtend 64 := rfl
  rw [e1, BitVec.getLsbD_signExtend]
  have e2 : ∀ i, ((4294967295 : Int64).toBitVec).getLsbD i = decide (i < 32) := by
    intro i
    show (BitVec.ofNat 64 4294967295).getLsbD i = _
    rw [BitVec.getLsbD_ofNat, show (4294967295 : Nat) = 2 ^ 32 - 1 from rfl, Nat.testBit_two_pow_sub_one]
    by_cases h1 : i < 32
    · simp [h1]; omega
    · simp [h1]
  rw [e2]
  have e3 : (lN n).toBitVec.getLsbD i = n.testBit i := by
    show (BitVec.ofNat 64 n).getLsbD i = _
    rw [BitVec.getLsbD_ofNat]
    simp [hi]
  have e4 : (nI n).toBitVec.getLsbD i = (decide (i < 32) && n.testBit i) := by
    show (BitVec.ofNat 32 n).getLsbD i = _
    rw [BitVec.getLsbD_ofNat]
  rw [e3]
  by_cases h1 : i < 32
  · simp [h1, hi]
    rw [← BitVec.getLsbD_eq_getElem, e4]
    simp [h1]
  · have : n.testBit i = false := Nat.testBit_lt_two_pow (Nat.lt_of_lt_of_le h (Nat.pow_le_pow_right (by decide) (by omega)))
    simp [h1, this]
theorem lN_i' (n : Nat) : (lN n).toInt32 = nI n := lN_i n
def U1 (F : Nat → Int32) (i : Nat) : Nat := (F i &&& 255).toNatClampNeg
theorem U1_eq (F : Nat → Int32) (i : Nat) : F i &&& 255 = nI (U1 F i) := by
  obtain ⟨j, hj, e⟩ := pk_andE (F i) (m := 255) 8 (by decide)
  unfold U1
  rw [e, nI_clamp (by omega)]
theorem U1_lt (F : Nat → Int32) (i : Nat) : U1 F i < 256 := by
  obtain ⟨j, hj, e⟩ := pk_andE (F i) (m := 255) 8 (by decide)
  unfold U1
  rw [e, nI_clamp (by omega)]
  exact hj
def U2 (F : Nat → Int32) (p : Nat) : Nat := U1 F p * 256 + U1 F (p + 1)
def U4 (F : Nat → Int32) (p : Nat) : Nat := U2 F p * 65536 + U2 F (p + 2)
theorem U2_lt (F : Nat → Int32) (p : Nat) : U2 F p < 65536 := by
  have := U1_lt F p
  have := U1_lt F (p + 1)
  unfold U2
  omega
theorem U4_lt (F : Nat → Int32) (p : Nat) : U4 F p < 4294967296 := by
  have := U2_lt F p
  have := U2_lt F (p + 2)
  unfold U4
  omega
theorem u2_i {a b : Nat} (ha : a < 256) (hb : b < 256) : (nI a <<< ((8 : Int32) &&& 31)) ||| nI b = nI (a * 256 + b) := by
  rw [pk_shlN _ 8 (by decide) (by omega)]
  exact nI_or (k := 8) (by omega) (by omega)
theorem u4_i {a b : Nat} (ha : a < 65536) (hb : b < 65536) : (nI a <<< ((16 : Int32) &&& 31)) ||| nI b = nI (a * 65536 + b) := by
  rw [pk_shlN _ 16 (by decide) (by omega)]
  exact nI_or (k := 16) (by omega) (by omega)
theorem u4_l {a b : Nat} (ha : a < 65536) (hb : b < 65536) : ((nI a).toInt64 <<< ((16 : Int32).toInt64 &&& 63)) ||| (nI b).toInt64 = lN (a * 65536 + b) := by
  rw [nI_l (by omega), nI_l (by omega), lN_shl _ 16 (by decide) (by omega)]
  exact lN_or (k := 16) (by omega) (by omega)
theorem ckIn_n {α : Type} {i N : Nat} {k : Option α} (h : i < N) (hN : N < 2 ^ 31) : ckIn (nI i) N k = k := ckIn_in (vp_in_nI h hN)
/-- what the twin's file holds -/
def mF (F : Nat → Int32) (n : Nat) (σ : SM) : Prop := σ.1 49 = 0 ∧ σ.1 16 = nI n ∧ n ≤ 65560 ∧ ∀ i, i < n → σ.2 12 i = F i
theorem m_u1_ok {F : Nat → Int32} {n p : Nat} {σ : SM} (h : mF F n σ) (hp : p < n) : m_u1 σ (nI p) = some (nI (U1 F p)) := by
  obtain ⟨h1, h2, h3, h4⟩ := h
  unfold m_u1 m_u1_0
  rw [h1, show (0 : Int32) + nI p = nI p by rw [show (0 : Int32) = nI 0 from rfl, nI_add, Nat.zero_add], ckIn_n (by omega) (by decide), nI_clamp (by omega), h4 p hp, U1_eq]
theorem m_u2_ok {F : Nat → Int32} {n p : Nat} {σ : SM} (h : mF F n σ) (hp : p + 2 ≤ n) : m_u2 σ (nI p) = some (nI (U2 F p)) := by
  unfold m_u2 m_u2_0
  rw [m_u1_ok h (by omega), nI_1, m_u1_ok h (by omega)]
  show some _ = _
  rw [u2_i (U1_lt _ _) (U1_lt _ _)]
  rfl
theorem m_u4_ok {F : Nat → Int32} {n p : Nat} {σ : SM} (h : mF F n σ) (hp : p + 4 ≤ n) : m_u4 σ (nI p) = some (lN (U4 F p)) := by
  unfold m_u4 m_u4_0
  rw [m_u2_ok h (by omega), show nI p + (2 : Int32) = nI (p + 2) from nI_add p 2, m_u2_ok h (by omega)]
  show some _ = _
  rw [u4_l (U2_lt _ _) (U2_lt _ _)]
  rfl
/-- what the component's file holds: x0 the ClassGate, its file of n bytes -/
def xF (F : Nat → Int32) (n : Nat) (x0 : Nat) (σ : GS) : Prop := gk σ x0 = 1 ∧ ∃ f, gr σ x0 2 = some f ∧ gk σ f = 101 ∧ gn σ f = n ∧ n < 2 ^ 31 ∧ ∀ i, i < n → gi σ f i = F i
theorem x_u1_ok {F : Nat → Int32} {n x0 p : Nat} {σ : GS} (h : xF F n x0 σ) (hp : p < n) : x_u1 σ x0 (nI p) = some (nI (U1 F p)) := by
  obtain ⟨h1, f, h2, h3, h4, h5, h6⟩ := h
  unfold x_u1 x_u1_0 ckT ckK
  simp only [h1, h2, h3, h4, if_true]
  rw [ckIn_n hp (by omega), nI_clamp (by omega), h6 p hp, U1_eq]
theorem x_u2_ok {F : Nat → Int32} {n x0 p : Nat} {σ : GS} (h : xF F n x0 σ) (hp : p + 2 ≤ n) : x_u2 σ x0 (nI p) = some (nI (U2 F p)) := by
  obtain ⟨h1, f, h2, h3, h4, h5, h6⟩ := h
  unfold x_u2 x_u2_0 ckT ckK
  simp only [h1, h2, h3, h4, if_true]
  rw [nI_1, ckIn_n (by omega) (by omega), ckIn_n (by omega) (by omega), nI_clamp (by omega), nI_clamp (by omega), h6 p (by omega), h6 (p + 1) (by omega), U1_eq, U1_eq, u2_i (U1_lt _ _) (U1_lt _ _)]
  rfl
theorem x_u4_ok {F : Nat → Int32} {n x0 p : Nat} {σ : GS} (h : xF F n x0 σ) (hp : p + 4 ≤ n) : x_u4 σ x0 (nI p) = some (nI (U4 F p)) := by
  unfold x_u4 x_u4_0 ckT
  rw [if_pos h.1, x_u2_ok h (by omega), show nI p + (2 : Int32) = nI (p + 2) from nI_add p 2, x_u2_ok h (by omega)]
  show some _ = _
  rw [u4_i (U2_lt _ _) (U2_lt _ _)]
  rfl
end Num
