/-! fields: the twin -/
section MFld
set_option maxRecDepth 100000
variable {P : PD} {N fu : Nat} {S : Nat → List Nat} {σ : SM}
theorem m_several_ok {f : Nat} (hf : f < 65536) : m_several (nI f) (1 : Int32) (2 : Int32) (4 : Int32) = some (bi (mto f)) := by
  have b0 : (nI f &&& (1 : Int32)) = 0 ↔ ¬ f.testBit 0 = true := nI0b (i := 0) hf (by omega)
  have b1 : (nI f &&& (2 : Int32)) = 0 ↔ ¬ f.testBit 1 = true := nI0b (i := 1) hf (by omega)
  have b2 : (nI f &&& (4 : Int32)) = 0 ↔ ¬ f.testBit 2 = true := nI0b (i := 2) hf (by omega)
  unfold m_several m_several_0 m_several_11 m_several_22 m_several_34 mto
  by_cases q0 : f.testBit 0 = true
  · rw [if_neg (fun w => (b0.mp w) q0)]
    by_cases q1 : f.testBit 1 = true
    · rw [if_neg (fun w => (b1.mp w) q1), bi_t (Or.inl ⟨q0, q1⟩)]
      split
      · rfl
      · rfl
    · rw [if_pos (b1.mpr q1)]
      by_cases q2 : f.testBit 2 = true
      · rw [if_neg (fun w => (b2.mp w) q2), bi_t (Or.inr (Or.inl ⟨q0, q2⟩))]
        rfl
      · rw [if_pos (b2.mpr q2), bi_f (fun w => w.elim (fun w => q1 w.2) (fun w => w.elim (fun w => q2 w.2) (fun w => q1 w.1)))]
        rfl
  · rw [if_pos (b0.mpr q0)]
    by_cases q1 : f.testBit 1 = true
    · rw [if_neg (fun w => (b1.mp w) q1)]
      by_cases q2 : f.testBit 2 = true
      · rw [if_neg (fun w => (b2.mp w) q2), bi_t (Or.inr (Or.inr ⟨q1, q2⟩))]
        rfl
      · rw [if_pos (b2.mpr q2), bi_f (fun w => w.elim (fun w => q0 w.1) (fun w => w.elim (fun w => q0 w.1) (fun w => q2 w.2)))]
        rfl
    · rw [if_pos (b1.mpr q1), bi_f (fun w => w.elim (fun w => q0 w.1) (fun w => w.elim (fun w => q0 w.1) (fun w => q1 w.1)))]
      split
      · rfl
      · rfl
abbrev fdA : List Nat := [27, 28, 29, 30, 31, 32, 33]
/-- a text that the twin holds in a table -/
def mSx (N : Nat) (S : Nat → List Nat) (a j : Nat) (t : List Nat) (σ : SM) : Prop := ∃ s, s < N ∧ σ.2 a j = nI s ∧ S s = t
theorem mSx.fr {a j : Nat} {t : List Nat} {σ σ' : SM} (h : mSx N S a j t σ) (e : σ'.2 a j = σ.2 a j) : mSx N S a j t σ' := by
  obtain ⟨s, h1, h2, h3⟩ := h
  exact ⟨s, h1, e.trans h2, h3⟩
/-- a field that the twin keeps -/
def mFd (P : PD) (N : Nat) (S : Nat → List Nat) (j : Nat) (r : MR) (σ : SM) : Prop := (σ.2 27 j = nI (U2 P.1 r.1) ∧ σ.2 30 j = nI (r.2 1) ∧ σ.2 31 j = nI (r.2 0) ∧ σ.2 32 j = nI (U2 P.1 (r.1 + 2)) ∧ σ.2 33 j = nI (U2 P.1 (r.1 + 4))) ∧ mSx N S 28 j (n2 P r.1) σ ∧ mSx N S 29 j (n4 P r.1) σ
theorem mFd.fr {j : Nat} {r : MR} {σ σ' : SM} (h : mFd P N S j r σ) (e : ∀ k, k ∈ fdA → σ'.2 k j = σ.2 k j) : mFd P N S j r σ' := by
  obtain ⟨⟨a1, a2, a3, a4, a5⟩, a6, a7⟩ := h
  exact ⟨⟨(e 27 (by decide)).trans a1, (e 30 (by decide)).trans a2, (e 31 (by decide)).trans a3, (e 32 (by decide)).trans a4, (e 33 (by decide)).trans a5⟩, a6.fr (e 28 (by decide)), a7.fr (e 29 (by decide))⟩
theorem m_f62 {k22 : SM → Int32 → Int32 → Int32 → Int32 → Option (Int32 × SM)} {fl f p : Nat} {x2 x3 x4 : Int32} (hf : f < 65536) (h58 : σ.1 58 = nI fl) : ((m_several (nI f) (1 : Int32) (2 : Int32) (4 : Int32)).bind fun r4 => if r4 = 0 then if (nI f &&& (16 : Int32)) = 0 then m_checkFields_62 fu k22 σ (nI p) x2 x3 x4 (nI f) else if (nI f &&& (64 : Int32)) = 0 then m_checkFields_62 fu k22 σ (nI p) x2 x3 x4 (nI f) else m_checkFields_84 fu σ (nI p) else m_checkFields_84 fu σ (nI p)) = ci (fbad (¬ (nI fl &&& (512 : Int32)) = 0) f) (some (0, mwr σ 19 p)) (m_checkFields_92 fu k22 σ (nI p) x2 x3 x4 (nI f)) := by
  have b4 : (nI f &&& (16 : Int32)) = 0 ↔ ¬ f.testBit 4 = true := nI0b (i := 4) hf (by omega)
  have b6 : (nI f &&& (64 : Int32)) = 0 ↔ ¬ f.testBit 6 = true := nI0b (i := 6) hf (by omega)
  have e84 : m_checkFields_84 fu σ (nI p) = some (0, mwr σ 19 p) := m_wL 19
  unfold m_checkFields_62 fbad
  rw [m_several_ok hf, Option.bind_some, e84, h58]
  by_cases q1 : mto f
  · rw [ib_t q1, ci_t (Or.inl q1)]
  rw [ib_f q1]
  have tl : ¬ (f.testBit 4 = true ∧ f.testBit 6 = true) → (if (nI fl &&& (512 : Int32)) = 0 then m_checkFields_92 fu k22 σ (nI p) x2 x3 x4 (nI f) else if (nI f &&& (16607 : Int32)) = (25 : Int32) then m_checkFields_92 fu k22 σ (nI p) x2 x3 x4 (nI f) else some (0, mwr σ 19 p)) = ci (mto f ∨ (f.testBit 4 = true ∧ f.testBit 6 = true) ∨ (¬ (nI fl &&& (512 : Int32)) = 0 ∧ ¬ (nI f &&& (16607 : Int32)) = 25)) (some (0, mwr σ 19 p)) (m_checkFields_92 fu k22 σ (nI p) x2 x3 x4 (nI f)) := fun q2 => by
    by_cases q3 : (nI fl &&& (512 : Int32)) = 0
    · rw [if_pos q3, ci_f (fun w => w.elim q1 (fun w => w.elim q2 (fun w => w.1 q3)))]
    rw [if_neg q3]
    by_cases q4 : (nI f &&& (16607 : Int32)) = 25
    · rw [if_pos q4, ci_f (fun w => w.elim q1 (fun w => w.elim q2 (fun w => w.2 q4)))]
    · rw [if_neg q4, ci_t (Or.inr (Or.inr ⟨q3, q4⟩))]
  by_cases q4 : f.testBit 4 = true
  · rw [if_neg (fun w => (b4.mp w) q4)]
    by_cases q6 : f.testBit 6 = true
    · rw [if_neg (fun w => (b6.mp w) q6), ci_t (Or.inr (Or.inl ⟨q4, q6⟩))]
    · rw [if_pos (b6.mpr q6)]
      exact tl (fun w => q6 w.2)
  · rw [if_pos (b4.mpr q4)]
    exact tl (fun w => q4 w.1)
/-- no field twice -/
theorem m_f277 {k22 : SM → Int32 → Int32 → Int32 → Int32 → Option (Int32 × SM)} {x2 x3 x4 : Int32} {p k : Nat} {M : Nat → MR} (h : mPo P N S σ) (hk : k < 8300) (hv : ∀ j, j < k → mSx N S 28 j (n2 P (M j).1) σ ∧ mSx N S 29 j (n4 P (M j).1) σ) (h28 : mSx N S 28 k (n2 P p) σ) (h29 : mSx N S 29 k (n4 P p) σ) : ∀ d j f, j + d = k → d < f → m_checkFields_277L fu k22 f σ (nI p) x2 x3 x4 (nI k) (nI j) = ci (∀ i, j ≤ i → i < k → ¬ (n2 P (M i).1 = n2 P p ∧ n4 P (M i).1 = n4 P p)) ((m_checkAttributes fu (sf σ 25 (σ.1 25 + 1)) (nI (p + 6)) (1 : Int32) (nI k)).bind fun r3 => if 0 ≤ r3.1 then k22 r3.2 r3.1 x2 x3 (x4 + 1) else some ((0 : Int32), r3.2)) (some (0, mwr σ 22 p)) := by
  intro d
  induction d with
  | zero =>
    intro j f hj hf
    obtain ⟨f, rfl⟩ : ∃ z9, f = z9 + 1 := ⟨f - 1, by omega⟩
    show m_checkFields_277 fu k22 (m_checkFields_277L fu k22 f) σ (nI p) x2 x3 x4 (nI k) (nI j) = _
    unfold m_checkFields_277
    rw [if_pos (nI_le (by omega) (by omega)), nx_eq, nI_6, ci_t (fun i i1 i2 => by omega)]
    rfl
  | succ d ih =>
    intro j f hj hf
    obtain ⟨f, rfl⟩ : ∃ z9, f = z9 + 1 := ⟨f - 1, by omega⟩
    obtain ⟨⟨s1, a1, a2, a3⟩, ⟨s2, c1, c2, c3⟩⟩ := hv j (by omega)
    obtain ⟨t1, e1, e2, e3⟩ := h28
    obtain ⟨t2, g1, g2, g3⟩ := h29
    have ih := ih (j + 1) f (by omega) (by omega)
    show m_checkFields_277 fu k22 (m_checkFields_277L fu k22 f) σ (nI p) x2 x3 x4 (nI k) (nI j) = _
    unfold m_checkFields_277 m_checkFields_326
    rw [if_neg (nI_ge (by omega) (by omega)), ckIn_n (by omega) (by omega), ckIn_n hk (by omega), ckIn_n (by omega) (by omega), ckIn_n hk (by omega), nI_clamp (by omega), nI_clamp (by omega), a2, c2, e2, g2, nx_eq, nI_1, m_wL 22, ih]
    have i1 := h.2.1.inj a1 e1
    have i2 := h.2.1.inj c1 g1
    rw [a3, e3] at i1
    rw [c3, g3] at i2
    have no : ¬ (n2 P (M j).1 = n2 P p ∧ n4 P (M j).1 = n4 P p) → (∀ i, j + 1 ≤ i → i < k → ¬ (n2 P (M i).1 = n2 P p ∧ n4 P (M i).1 = n4 P p)) = (∀ i, j ≤ i → i < k → ¬ (n2 P (M i).1 = n2 P p ∧ n4 P (M i).1 = n4 P p)) := fun w => propext ⟨fun z i i1 i2 => by
        rcases Nat.lt_or_ge j i with y | y
        · exact z i y i2
        · rw [show i = j by omega]
          exact w, fun z i i1 i2 => z i (by omega) i2⟩
    by_cases q1 : n2 P (M j).1 = n2 P p
    case neg =>
      rw [if_neg (fun w => q1 (i1.mp w)), no (fun w => q1 w.1)]
    rw [if_pos (i1.mpr q1)]
    by_cases q2 : n4 P (M j).1 = n4 P p
    case neg =>
      rw [if_neg (fun w => q2 (i2.mp w)), no (fun w => q2 w.2)]
    rw [if_pos (i2.mpr q2), ci_f (fun w => w j (Nat.le_refl _) (by omega) ⟨q1, q2⟩)]
abbrev fdL : List Nat := [25, 47, 48]
theorem m_fd_loop {nn fl q : Nat} {fin : Prop} (g : PG P) (hfu : 131072 < fu) (hnn : nn < 8300) : ∀ d k f p M σ, k + d = nn → d < f → mPo P N S σ → mKn σ → σ.1 58 = nI fl → σ.1 25 = nI k → (∀ j, j < k → mFd P N S j (M j) σ) → skM P.1 P.2.1 d p = .ok q →
    mRes fdL fdA (fdS P (¬ (nI fl &&& (512 : Int32)) = 0) fin d k p M) (fun M' σ' => σ'.1 25 = nI nn ∧ ∀ j, j < nn → mFd P N S j (M' j) σ') σ (m_checkFields_22L fu f σ (nI p) (nI nn) (nI 0) (nI k)) := by
  have hn := g.1
  intro d
  induction d with
  | zero =>
    intro k f p M σ hk hf h hK h58 h25 hv hq
    obtain ⟨f, rfl⟩ : ∃ z9, f = z9 + 1 := ⟨f - 1, by omega⟩
    show mRes _ _ _ _ _ (m_checkFields_22 fu (m_checkFields_22L fu f) σ (nI p) (nI nn) (nI 0) (nI k))
    unfold m_checkFields_22 fdS
    rw [if_pos (nI_le (by omega) (by omega))]
    exact mRes.ok ⟨by rw [h25, show k = nn by omega], fun j hj => hv j (by omega)⟩
  | succ d ih =>
    intro k f p M σ hk hf h hK h58 h25 hv hq
    obtain ⟨f, rfl⟩ : ∃ z9, f = z9 + 1 := ⟨f - 1, by omega⟩
    obtain ⟨hp, q', hat, hq'n, hpq, hq⟩ := skM_su hq
    have u0 := U2_lt P.1 p
    have u2 := U2_lt P.1 (p + 2)
    have u4 := U2_lt P.1 (p + 4)
    have t2 := tgP_lt P (U2 P.1 (p + 2))
    have t4 := tgP_lt P (U2 P.1 (p + 4))
    show mRes _ _ _ _ _ (m_checkFields_22 fu (m_checkFields_22L fu f) σ (nI p) (nI nn) (nI 0) (nI k))
    unfold m_checkFields_22 fdS
    rw [if_neg (nI_ge (by omega) (by omega)), m_u2_ok h.1.1 (by omega), Option.bind_some, m_f62 u0 h58]
    by_cases c1 : fbad (¬ (nI fl &&& (512 : Int32)) = 0) (U2 P.1 p)
    · rw [ci_t c1, ci_t c1]
      exact mRes.er (by decide) (by decide)
    rw [ci_f c1, ci_f c1]
    have e126 : m_checkFields_126 fu σ (nI p) = some (0, mwr σ 20 (p + 2)) := by
      unfold m_checkFields_126
      rw [nI_2]
      exact m_wL 20
    have e169 : m_checkFields_169 fu σ (nI p) = some (0, mwr σ 21 (p + 4)) := by
      unfold m_checkFields_169
      rw [nI_4]
      exact m_wL 21
    unfold m_checkFields_92
    rw [e126, e169, nI_2, m_u2_ok h.1.1 (by omega), Option.bind_some, m_tag_ok h g u2, Option.bind_some]
    by_cases d1 : tgP P (U2 P.1 (p + 2)) = 1
    case neg =>
      rw [if_neg (nL (k := 1) (by omega) (by omega) d1), ci_f (fun w => d1 w.1)]
      exact mRes.er (by decide) (by decide)
    obtain ⟨s, s1, s2, s3, s4⟩ := m_sym h g d1
    rw [if_pos (show nI (tgP P (U2 P.1 (p + 2))) = (1 : Int32) by rw [d1]; rfl), Option.bind_some, s1, Option.bind_some, m_unqualified_ok s4 (by omega), Option.bind_some, show ((1 : Int32) = 0) = False from propext ⟨fun z => absurd z i10, fun z => z.elim⟩]
    by_cases q1 : PlainS (txP P (U2 P.1 (p + 2))) 0 (txP P (U2 P.1 (p + 2))).length False
    case neg =>
      rw [ib_f q1, ci_f (fun w => q1 w.2)]
      exact mRes.er (by decide) (by decide)
    rw [ib_t q1, ci_t ⟨d1, q1⟩, nI_4, m_u2_ok h.1.1 (by omega), Option.bind_some, m_tag_ok h g u4, Option.bind_some]
    by_cases d2 : tgP P (U2 P.1 (p + 4)) = 1
    case neg =>
      rw [if_neg (nL (k := 1) (by omega) (by omega) d2), ci_f (fun w => d2 w.1)]
      exact mRes.er (by decide) (by decide)
    obtain ⟨t, z1, z2, z3, z4⟩ := m_sym h g d2
    rw [if_pos (show nI (tgP P (U2 P.1 (p + 4))) = (1 : Int32) by rw [d2]; rfl), Option.bind_some, z1, Option.bind_some, m_isField_ok z4 (by omega), Option.bind_some]
    by_cases q2 : FieldS (txP P (U2 P.1 (p + 4)))
    case neg =>
      rw [ib_f q2, ci_f (fun w => q2 w.2)]
      exact mRes.er (by decide) (by decide)
    rw [ib_t q2, ci_t ⟨d2, q2⟩, nx_eq, h25, ckIn_n (by omega) (by omega), nx_eq, nI_clamp (by omega)]
    -- the field's data
    have A1 : mfr [] fdA σ (sa σ 27 k (nI (U2 P.1 p))) := mfr.sa (by decide)
    have h1 := h.fr A1 (by decide) (by decide)
    have v1 : (sa σ 27 k (nI (U2 P.1 p))).2 27 k = nI (U2 P.1 p) := sa_eq
    have n1 : mNx fdA k σ (sa σ 27 k (nI (U2 P.1 p))) := mNx.sa
    have y1 : m_symOf (sa σ 27 k (nI (U2 P.1 p))) (nI (U2 P.1 (p + 2))) = some (nI s) := s1
    have y2 : m_symOf (sa σ 27 k (nI (U2 P.1 p))) (nI (U2 P.1 (p + 4))) = some (nI t) := z1
    generalize sa σ 27 k (nI (U2 P.1 p)) = σ1 at *
    rw [m_u2_ok h1.1.1 (by omega), Option.bind_some, y1, Option.bind_some, ckIn_n (by omega) (by omega), nx_eq]
    have A2 : mfr [] fdA σ1 (sa σ1 28 k (nI s)) := mfr.sa (by decide)
    have h2 := h1.fr A2 (by decide) (by decide)
    have v2 : (sa σ1 28 k (nI s)).2 28 k = nI s := sa_eq
    have w2 : (sa σ1 28 k (nI s)).2 27 k = nI (U2 P.1 p) := by rw [sa_nk (by decide), v1]
    have n2' := n1.tr (mNx.sa (A := fdA) (x := k) (k := 28) (v := nI s) (σ := σ1))
    have y3 : m_symOf (sa σ1 28 k (nI s)) (nI (U2 P.1 (p + 4))) = some (nI t) := y2
    have A12 := A1.tr A2
    generalize sa σ1 28 k (nI s) = σ2 at *
    rw [m_u2_ok h2.1.1 (by omega), Option.bind_some, y3, Option.bind_some, ckIn_n (by omega) (by omega), nx_eq, ckIn_n (by omega) (by omega), nx_eq, ckIn_n (by omega) (by omega), nx_eq]
    have A3 : mfr [] fdA σ2 (sa (sa (sa σ2 29 k (nI t)) 30 k 0) 31 k 0) := (mfr.sa (by decide)).tr ((mfr.sa (by decide)).tr (mfr.sa (by decide)))
    have h3 := h2.fr A3 (by decide) (by decide)
    have w3 : (sa (sa (sa σ2 29 k (nI t)) 30 k 0) 31 k 0).2 27 k = nI (U2 P.1 p) := by rw [sa_nk (by decide), sa_nk (by decide), sa_nk (by decide), w2]
    have w3b : (sa (sa (sa σ2 29 k (nI t)) 30 k 0) 31 k 0).2 28 k = nI s := by rw [sa_nk (by decide), sa_nk (by decide), sa_nk (by decide), v2]
    have w3c : (sa (sa (sa σ2 29 k (nI t)) 30 k 0) 31 k 0).2 29 k = nI t := by rw [sa_nk (by decide), sa_nk (by decide), sa_eq]
    have w3d : (sa (sa (sa σ2 29 k (nI t)) 30 k 0) 31 k 0).2 30 k = 0 := by rw [sa_nk (by decide), sa_eq]
    have w3e : (sa (sa (sa σ2 29 k (nI t)) 30 k 0) 31 k 0).2 31 k = 0 := sa_eq
    have n3 := n2'.tr ((mNx.sa (A := fdA) (x := k) (k := 29) (v := nI t) (σ := σ2)).tr ((mNx.sa (A := fdA) (x := k) (k := 30) (v := 0)).tr (mNx.sa (A := fdA) (x := k) (k := 31) (v := 0))))
    have A13 := A12.tr A3
    generalize sa (sa (sa σ2 29 k (nI t)) 30 k 0) 31 k 0 = σ3 at *
    rw [m_u2_ok h3.1.1 (by omega), Option.bind_some, ckIn_n (by omega) (by omega), nx_eq]
    have A4 : mfr [] fdA σ3 (sa σ3 32 k (nI (U2 P.1 (p + 2)))) := mfr.sa (by decide)
    have h4 := h3.fr A4 (by decide) (by decide)
    rw [m_u2_ok h4.1.1 (by omega), Option.bind_some, ckIn_n (by omega) (by omega), nx_eq]
    have A5 : mfr [] fdA σ3 (sa (sa σ3 32 k (nI (U2 P.1 (p + 2)))) 33 k (nI (U2 P.1 (p + 4)))) := A4.tr (mfr.sa (by decide))
    have h5 := h3.fr A5 (by decide) (by decide)
    have v5a : (sa (sa σ3 32 k (nI (U2 P.1 (p + 2)))) 33 k (nI (U2 P.1 (p + 4)))).2 27 k = nI (U2 P.1 p) := by rw [sa_nk (by decide), sa_nk (by decide), w3]
    have v5b : (sa (sa σ3 32 k (nI (U2 P.1 (p + 2)))) 33 k (nI (U2 P.1 (p + 4)))).2 28 k = nI s := by rw [sa_nk (by decide), sa_nk (by decide), w3b]
    have v5c : (sa (sa σ3 32 k (nI (U2 P.1 (p + 2)))) 33 k (nI (U2 P.1 (p + 4)))).2 29 k = nI t := by rw [sa_nk (by decide), sa_nk (by decide), w3c]
    have v5d : (sa (sa σ3 32 k (nI (U2 P.1 (p + 2)))) 33 k (nI (U2 P.1 (p + 4)))).2 30 k = 0 := by rw [sa_nk (by decide), sa_nk (by decide), w3d]
    have v5e : (sa (sa σ3 32 k (nI (U2 P.1 (p + 2)))) 33 k (nI (U2 P.1 (p + 4)))).2 31 k = 0 := by rw [sa_nk (by decide), sa_nk (by decide), w3e]
    have v5f : (sa (sa σ3 32 k (nI (U2 P.1 (p + 2)))) 33 k (nI (U2 P.1 (p + 4)))).2 32 k = nI (U2 P.1 (p + 2)) := by rw [sa_nk (by decide), sa_eq]
    have v5g : (sa (sa σ3 32 k (nI (U2 P.1 (p + 2)))) 33 k (nI (U2 P.1 (p + 4)))).2 33 k = nI (U2 P.1 (p + 4)) := sa_eq
    have n5 := n3.tr ((mNx.sa (A := fdA) (x := k) (k := 32) (v := nI (U2 P.1 (p + 2))) (σ := σ3)).tr (mNx.sa (A := fdA) (x := k) (k := 33) (v := nI (U2 P.1 (p + 4)))))
    have A15 := A13.tr A5
    generalize sa (sa σ3 32 k (nI (U2 P.1 (p + 2)))) 33 k (nI (U2 P.1 (p + 4))) = σ5 at *
    have F5 : mfr fdL fdA σ σ5 := A15.mo (by decide) (fun _ z => z)
    refine mRes.fr F5 ?_
    have hv5 : ∀ j, j < k → mFd P N S j (M j) σ5 := fun j hj => (hv j hj).fr (fun a ha => n5 a ha j (by omega))
    have x28 : mSx N S 28 k (n2 P p) σ5 := ⟨s, s2, v5b, s3⟩
    have x29 : mSx N S 29 k (n4 P p) σ5 := ⟨t, z2, v5c, z3⟩
    rw [show m_checkFields_277L fu (m_checkFields_22L fu f) fu σ5 (nI p) (nI nn) (nI 0) (nI k) (nI k) (nI 0) = _ from m_f277 h5 (by omega) (fun j hj => ⟨(hv5 j hj).2.1, (hv5 j hj).2.2⟩) x28 x29 k 0 fu (by omega) (by omega)]
    by_cases q3 : ∀ j, 0 ≤ j → j < k → ¬ (n2 P (M j).1 = n2 P p ∧ n4 P (M j).1 = n4 P p)
    case neg =>
      rw [ci_f q3, ci_f q3]
      exact mRes.er (by decide) (by decide)
    rw [ci_t q3, ci_t q3]
    have e25 : σ5.1 25 = nI k := (A15.1 25 (by decide)).trans h25
    rw [e25, nI_1]
    have A6 : mfr fdL fdA σ5 (sf σ5 25 (nI (k + 1))) := mfr.sf (by decide)
    have h6 := h5.fr A6 (by decide) (by decide)
    have K6 : mKn (sf σ5 25 (nI (k + 1))) := (hK.fr F5 (by decide) (by decide)).fr A6 (by decide) (by decide)
    refine mRes.fr A6 ?_
    have i25 : (sf σ5 25 (nI (k + 1))).1 25 = nI (k + 1) := sf_eq
    have i58 : (sf σ5 25 (nI (k + 1))).1 58 = nI fl := (sf_ne (by decide)).trans ((A15.1 58 (by decide)).trans h58)
    have hv6 : ∀ j, j < k → mFd P N S j (M j) (sf σ5 25 (nI (k + 1))) := fun j hj => (hv5 j hj).fr (fun _ _ => rfl)
    have r27 : (sf σ5 25 (nI (k + 1))).2 27 k = nI (U2 P.1 p) := v5a
    have r28 : mSx N S 28 k (n2 P p) (sf σ5 25 (nI (k + 1))) := x28
    have r29 : mSx N S 29 k (n4 P p) (sf σ5 25 (nI (k + 1))) := x29
    have r30 : (sf σ5 25 (nI (k + 1))).2 30 k = 0 := v5d
    have r31 : (sf σ5 25 (nI (k + 1))).2 31 k = 0 := v5e
    have r32 : (sf σ5 25 (nI (k + 1))).2 32 k = nI (U2 P.1 (p + 2)) := v5f
    have r33 : (sf σ5 25 (nI (k + 1))).2 33 k = nI (U2 P.1 (p + 4)) := v5g
    generalize sf σ5 25 (nI (k + 1)) = σ6 at *
    have hsk : skA P.1 P.2.1 (U2 P.1 (p + 6)) (p + 8) = .ok q' := by
      have z := hat
      unfold attrS at z
      obtain ⟨_, _, z⟩ := eb_inv z
      exact z
    have hd1 : 1 ≤ (n4 P p).length := (ftS_lt (show ftS (n4 P p) 0 = some (n4 P p).length from q2)).1
    have hAt := m_att_ok (fu := fu) (a := fun _ => 0) (x := k) (p := p + 6) (q := q') g hfu (by omega) (mStp0 (fin := fin) (np := 0) (fl := U2 P.1 p) (σ0 := σ6) g hfu (by omega) r27 r29 hd1) h6 K6 ⟨⟨r31, r30⟩, mNx.rf, mfr.rf⟩ (by omega) hsk
    revert hAt
    show mCA _ _ (attsS P 0 fin (U2 P.1 p) (n4 P p) 0 (U2 P.1 (p + 6)) (p + 8) 0 (fun _ => 0)) _ _ _ (m_checkAttributes fu σ6 (nI (p + 6)) (1 : Int32) (nI k)) → _
    cases attsS P 0 fin (U2 P.1 p) (n4 P p) 0 (U2 P.1 (p + 6)) (p + 8) 0 (fun _ => 0) with
    | error er =>
      rintro ⟨σ7, a1, a2, a3, a4⟩
      refine ⟨σ7, ?_, a2, a3, a4.mo (by decide) (by decide)⟩
      rw [a1, Option.bind_some, if_neg (show ¬ (0 : Int32) ≤ ((-1 : Int32), σ7).1 from (by decide : ¬ (0 : Int32) ≤ -1))]
    | ok a =>
      rintro ⟨σ7, a1, ⟨s', ⟨b1, b2⟩, b3, b4⟩, -⟩
      rw [a1, Option.bind_some, if_pos (show (0 : Int32) ≤ (nI q', σ7).1 from nI_pos' (by omega)), eb_ok, hat, eb_ok]
      have F7 : mfr fdL fdA σ6 σ7 := b4.mo (by decide) (by decide)
      refine mRes.fr F7 ?_
      have ex : ∀ j, j ≠ k → ∀ a, a ∈ fdA → σ7.2 a j = σ6.2 a j := fun j hj a ha => by
        by_cases w : a ∈ [30, 31]
        · exact b3 a w j hj
        · rw [b4.2 a w]
      refine ih (k + 1) f q' (uM M k (p, a)) σ7 (by omega) (by omega) (h6.fr F7 (by decide) (by decide)) (K6.fr F7 (by decide) (by decide)) ((F7.1 58 (by decide)).trans i58) ((b4.1 25 (by decide)).trans i25) (fun j hj => ?_) hq
      by_cases w : j = k
      · subst w
        rw [show uM M j (p, a) j = (p, a) from if_pos rfl]
        exact ⟨⟨by rw [b4.2 27 (by decide)]; exact r27, b2, b1, by rw [b4.2 32 (by decide)]; exact r32, by rw [b4.2 33 (by decide)]; exact r33⟩, r28.fr (by rw [b4.2 28 (by decide)]), r29.fr (by rw [b4.2 29 (by decide)])⟩
      · rw [show uM M k (p, a) j = M j from if_neg w]
        exact (hv6 j (by omega)).fr (ex j w)
theorem m_checkFields_ok {fl p q : Nat} {fin : Prop} (g : PG P) (hfu : 131072 < fu) (h : mPo P N S σ) (hK : mKn σ) (h58 : σ.1 58 = nI fl) (h25 : σ.1 25 = 0) (h55 : σ.1 55 = nI p) (hp : p + 2 ≤ P.2.1) (hq : membS P.1 P.2.1 p = .ok q) :
    mRes fdL fdA (fldS P (¬ (nI fl &&& (512 : Int32)) = 0) fin p) (fun M' σ' => σ'.1 25 = nI (U2 P.1 p) ∧ ∀ j, j < U2 P.1 p → mFd P N S j (M' j) σ') σ (m_checkFields fu σ) := by
  have hn := g.1
  unfold membS at hq
  obtain ⟨_, _, hq⟩ := eb_inv hq
  have hm := mem8 _ _ _ hq hp
  unfold m_checkFields m_checkFields_0 fldS
  rw [nx_eq, h55, m_u2_ok h.1.1 hp, Option.bind_some, nx_eq, nI_2, nx_eq, h25]
  exact m_fd_loop g hfu (by omega) (U2 P.1 p) 0 fu (p + 2) _ σ (by omega) (by omega) h hK h58 h25 (fun j hj => by omega) hq
end MFld
