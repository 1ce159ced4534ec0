/-! methods: the twin's helpers -/
section MMth
set_option maxRecDepth 100000
variable {P : PD} {N fu : Nat} {S : Nat → List Nat} {σ : SM}
theorem m_flagsFit_ok {f : Nat} {init face : Prop} {x2 x3 : Int32} (hf : f < 65536) (h53 : σ.1 53 = nI (mjP P)) (h2 : x2 = 0 ↔ ¬ init) (h3 : x3 = 0 ↔ ¬ face) : m_flagsFit σ (nI f) x2 x3 = some (bi (mflP P face init f)) := by
  have hmj := mjP_lt P
  have b0 : (nI f &&& (1 : Int32)) = 0 ↔ ¬ f.testBit 0 = true := nI0b (i := 0) hf (by omega)
  have b1 : (nI f &&& (2 : Int32)) = 0 ↔ ¬ f.testBit 1 = true := nI0b (i := 1) hf (by omega)
  have b10 : (nI f &&& (1024 : Int32)) = 0 ↔ ¬ f.testBit 10 = true := nI0b (i := 10) hf (by omega)
  unfold m_flagsFit m_flagsFit_0 m_flagsFit_70 m_flagsFit_74 m_flagsFit_26
  by_cases qi : init
  · rw [if_neg (fun w => (h2.mp w) qi), m_several_ok hf, Option.bind_some]
    by_cases q1 : mto f
    · rw [ib_t q1, bi_f (fun w => w.elim (fun w => w.2.1 q1) (fun w => w.1 qi))]
    rw [ib_f q1]
    by_cases q2 : (nI f &&& (1400 : Int32)) = 0
    · rw [if_pos q2, bi_t (show mflP P face init f from Or.inl ⟨qi, q1, q2⟩)]
    · rw [if_neg q2, bi_f (fun w => w.elim (fun w => q2 w.2.2) (fun w => w.1 qi))]
  rw [if_pos (h2.mpr qi), h53]
  have key : ∀ t0 : Int32, m_flagsFit_75 σ (nI f) x3 t0 = some (bi (t0 = 0 ∧ ((¬ face ∧ ¬ mto f) ∨ (face ∧ (nI f &&& (308 : Int32)) = 0 ∧ ((mjP P < 52 ∧ f.testBit 0 = true ∧ f.testBit 10 = true ∧ (nI f &&& (8 : Int32)) = 0) ∨ (52 ≤ mjP P ∧ ¬ (f.testBit 0 = true ↔ f.testBit 1 = true))))))) := fun t0 => by
    unfold m_flagsFit_75 m_flagsFit_100 m_flagsFit_156 m_flagsFit_167 m_flagsFit_172
    by_cases qf : face
    case neg =>
      rw [if_pos (h3.mpr qf), m_several_ok hf, Option.bind_some]
      by_cases q1 : mto f
      · rw [ib_t q1, bi_f (fun w => w.2.elim (fun w => w.2 q1) (fun w => qf w.1))]
      rw [ib_f q1]
      by_cases q2 : t0 = 0
      · rw [if_pos q2, bi_t ⟨q2, Or.inl ⟨qf, q1⟩⟩]
      · rw [if_neg q2, bi_f (fun w => q2 w.1)]
    rw [if_neg (fun w => (h3.mp w) qf)]
    by_cases q3 : (nI f &&& (308 : Int32)) = 0
    case neg => rw [if_neg q3, bi_f (fun w => w.2.elim (fun w => w.1 qf) (fun w => q3 w.2.1))]
    rw [if_pos q3, h53]
    by_cases q4 : 52 ≤ mjP P
    · rw [if_pos (show (52 : Int32) ≤ nI (mjP P) from nI_le (a := 52) q4 (by omega))]
      by_cases c0 : f.testBit 0 = true
      · rw [if_neg (fun w => (b0.mp w) c0)]
        by_cases c1 : f.testBit 1 = true
        · rw [if_neg (fun w => (b1.mp w) c1), if_pos rfl, bi_f (fun w => w.2.elim (fun w => w.1 qf) (fun w => w.2.2.elim (fun w => by omega) (fun w => w.2 ⟨fun _ => c1, fun _ => c0⟩)))]
        · rw [if_pos (b1.mpr c1), if_neg (show ¬ (1 : Int32) = 0 from i10)]
          by_cases q2 : t0 = 0
          · rw [if_pos q2, bi_t ⟨q2, Or.inr ⟨qf, q3, Or.inr ⟨q4, fun w => c1 (w.mp c0)⟩⟩⟩]
          · rw [if_neg q2, bi_f (fun w => q2 w.1)]
      · rw [if_pos (b0.mpr c0)]
        by_cases c1 : f.testBit 1 = true
        · rw [if_neg (fun w => (b1.mp w) c1), if_neg (show ¬ (0 : Int32) = 1 by decide)]
          by_cases q2 : t0 = 0
          · rw [if_pos q2, bi_t ⟨q2, Or.inr ⟨qf, q3, Or.inr ⟨q4, fun w => c0 (w.mpr c1)⟩⟩⟩]
          · rw [if_neg q2, bi_f (fun w => q2 w.1)]
        · rw [if_pos (b1.mpr c1), if_pos rfl, bi_f (fun w => w.2.elim (fun w => w.1 qf) (fun w => w.2.2.elim (fun w => c0 w.2.1) (fun w => w.2 ⟨fun z => absurd z c0, fun z => absurd z c1⟩)))]
    rw [if_neg (show ¬ (52 : Int32) ≤ nI (mjP P) from nI_ge (b := 52) (by omega) (by omega))]
    by_cases c0 : f.testBit 0 = true
    case neg => rw [if_pos (b0.mpr c0), bi_f (fun w => w.2.elim (fun w => w.1 qf) (fun w => w.2.2.elim (fun w => c0 w.2.1) (fun w => q4 w.1)))]
    rw [if_neg (fun w => (b0.mp w) c0)]
    by_cases c10 : f.testBit 10 = true
    case neg => rw [if_pos (b10.mpr c10), bi_f (fun w => w.2.elim (fun w => w.1 qf) (fun w => w.2.2.elim (fun w => c10 w.2.2.1) (fun w => q4 w.1)))]
    rw [if_neg (fun w => (b10.mp w) c10)]
    by_cases c8 : (nI f &&& (8 : Int32)) = 0
    case neg => rw [if_neg c8, bi_f (fun w => w.2.elim (fun w => w.1 qf) (fun w => w.2.2.elim (fun w => c8 w.2.2.2) (fun w => q4 w.1)))]
    rw [if_pos c8]
    by_cases q2 : t0 = 0
    · rw [if_pos q2, bi_t ⟨q2, Or.inr ⟨qf, q3, Or.inl ⟨by omega, c0, c10, c8⟩⟩⟩]
    · rw [if_neg q2, bi_f (fun w => q2 w.1)]
  rw [key 0, key 1]
  have yes : ¬ absB P f → some (bi ((0 : Int32) = 0 ∧ ((¬ face ∧ ¬ mto f) ∨ (face ∧ (nI f &&& (308 : Int32)) = 0 ∧ ((mjP P < 52 ∧ f.testBit 0 = true ∧ f.testBit 10 = true ∧ (nI f &&& (8 : Int32)) = 0) ∨ (52 ≤ mjP P ∧ ¬ (f.testBit 0 = true ↔ f.testBit 1 = true))))))) = some (bi (mflP P face init f)) := fun na => congrArg some (bi_iff ⟨fun w => Or.inr ⟨qi, na, w.2⟩, fun w => w.elim (fun w => absurd w.1 qi) (fun w => ⟨rfl, w.2.2⟩)⟩)
  have no : absB P f → some (bi ((1 : Int32) = 0 ∧ ((¬ face ∧ ¬ mto f) ∨ (face ∧ (nI f &&& (308 : Int32)) = 0 ∧ ((mjP P < 52 ∧ f.testBit 0 = true ∧ f.testBit 10 = true ∧ (nI f &&& (8 : Int32)) = 0) ∨ (52 ≤ mjP P ∧ ¬ (f.testBit 0 = true ↔ f.testBit 1 = true))))))) = some (bi (mflP P face init f)) := fun na => congrArg some (bi_iff ⟨fun w => absurd w.1 i10, fun w => w.elim (fun w => absurd w.1 qi) (fun w => absurd na w.2.1)⟩)
  unfold absB at yes no
  by_cases a1 : (nI f &&& (1024 : Int32)) = 0
  · rw [if_pos a1]
    exact yes (fun w => w.1 a1)
  rw [if_neg a1]
  by_cases a2 : (nI f &&& (314 : Int32)) = 0
  case neg =>
    rw [if_neg a2]
    exact no ⟨a1, Or.inl a2⟩
  rw [if_pos a2]
  by_cases a3 : mjP P < 46
  · rw [if_pos (show nI (mjP P) < (46 : Int32) from nI_lt (b := 46) a3 (by omega))]
    exact yes (fun w => w.2.elim (fun w => w a2) (fun w => by omega))
  rw [if_neg (show ¬ nI (mjP P) < (46 : Int32) from nI_nlt (b := 46) (by omega) (by omega))]
  by_cases a4 : 60 < mjP P
  · rw [if_pos (show (60 : Int32) < nI (mjP P) from nI_lt (a := 60) a4 (by omega))]
    exact yes (fun w => w.2.elim (fun w => w a2) (fun w => by omega))
  rw [if_neg (show ¬ (60 : Int32) < nI (mjP P) from nI_nlt (a := 60) (by omega) (by omega))]
  by_cases a5 : (nI f &&& (2048 : Int32)) = 0
  · rw [if_pos a5]
    exact yes (fun w => w.2.elim (fun w => w a2) (fun w => w.2.2 a5))
  · rw [if_neg a5]
    exact no ⟨a1, Or.inr ⟨by omega, by omega, a5⟩⟩
abbrev mtA : List Nat := [34, 35, 36, 37, 38, 39, 40, 41, 42, 43, 44, 45, 46]
/-- a method that the twin keeps -/
def mMt (P : PD) (N : Nat) (S : Nat → List Nat) (j : Nat) (r : MR) (σ : SM) : Prop := (σ.2 34 j = nI (U2 P.1 r.1) ∧ σ.2 43 j = nI (r.2 0) ∧ σ.2 44 j = nI (r.2 2) ∧ σ.2 45 j = nI (U2 P.1 (r.1 + 2)) ∧ σ.2 46 j = nI (U2 P.1 (r.1 + 4))) ∧ mSx N S 35 j (n2 P r.1) σ ∧ mSx N S 36 j (n4 P r.1) σ ∧ if r.2 3 = 0 then σ.2 37 j = -1 ∧ σ.2 38 j = 0 ∧ σ.2 39 j = 0 ∧ σ.2 40 j = 0 ∧ σ.2 42 j = 0 else mCd P.1 j (r.2 3) σ
theorem mMt.fr {j : Nat} {r : MR} {σ σ' : SM} (h : mMt P N S j r σ) (e : ∀ k, k ∈ mtA → σ'.2 k j = σ.2 k j) : mMt P N S j r σ' := by
  obtain ⟨⟨a1, a2, a3, a4, a5⟩, a6, a7, a8⟩ := h
  refine ⟨⟨(e 34 (by decide)).trans a1, (e 43 (by decide)).trans a2, (e 44 (by decide)).trans a3, (e 45 (by decide)).trans a4, (e 46 (by decide)).trans a5⟩, a6.fr (e 35 (by decide)), a7.fr (e 36 (by decide)), ?_⟩
  have e37 := e 37 (by decide)
  have e38 := e 38 (by decide)
  have e39 := e 39 (by decide)
  have e40 := e 40 (by decide)
  have e41 := e 41 (by decide)
  have e42 := e 42 (by decide)
  by_cases z : r.2 3 = 0
  · rw [if_pos z] at a8 ⊢
    rw [e37, e38, e39, e40, e42]
    exact a8
  · rw [if_neg z] at a8 ⊢
    unfold mCd at a8 ⊢
    rw [e37, e38, e39, e40, e41, e42]
    exact a8
/-- no method twice -/
theorem m_m399 {k40 : SM → Int32 → Int32 → Int32 → Int32 → Int32 → Option (Int32 × SM)} {x2 x3 x4 x5 x6 x9 : Int32} {p k s t : Nat} {M : Nat → MR} (h : mPo P N S σ) (hk : k < 8300) (hv : ∀ j, j < k → mSx N S 35 j (n2 P (M j).1) σ ∧ mSx N S 36 j (n4 P (M j).1) σ) (e1 : s < N ∧ S s = n2 P p) (g1 : t < N ∧ S t = n4 P p) : ∀ d j f, j + d = k → d < f → m_checkMethods_399L fu k40 f σ (nI p) x2 x3 x4 x5 x6 (nI s) x9 (nI t) (nI k) (nI j) = ci (∀ i, j ≤ i → i < k → ¬ (n2 P (M i).1 = n2 P p ∧ n4 P (M i).1 = n4 P p)) ((m_checkAttributes fu (sf σ 26 (σ.1 26 + 1)) (nI (p + 6)) (2 : Int32) (nI k)).bind fun r3 => if 0 ≤ r3.1 then if (x6 &&& (1280 : Int32)) = 0 then m_checkMethods_492 fu k40 r3.2 (nI p) x2 x3 x4 x5 (nI k) r3.1 else if x9 = 0 then m_checkMethods_493 fu k40 r3.2 (nI p) x2 x3 x4 x5 (nI k) r3.1 (1 : Int32) else m_checkMethods_492 fu k40 r3.2 (nI p) x2 x3 x4 x5 (nI k) r3.1 else some ((0 : Int32), r3.2)) (some (0, mwr σ 26 p)) := by
  intro d
  induction d with
  | zero =>
    intro j f hj hf
    obtain ⟨f, rfl⟩ : ∃ z9, f = z9 + 1 := ⟨f - 1, by omega⟩
    show m_checkMethods_399 fu k40 (m_checkMethods_399L fu k40 f) σ (nI p) x2 x3 x4 x5 x6 (nI s) x9 (nI t) (nI k) (nI j) = _
    unfold m_checkMethods_399
    rw [if_pos (nI_le (by omega) (by omega)), nx_eq, nI_6, ci_t (fun i i1 i2 => by omega)]
    rfl
  | succ d ih =>
    intro j f hj hf
    obtain ⟨f, rfl⟩ : ∃ z9, f = z9 + 1 := ⟨f - 1, by omega⟩
    obtain ⟨⟨s1, a1, a2, a3⟩, ⟨s2, c1, c2, c3⟩⟩ := hv j (by omega)
    have ih := ih (j + 1) f (by omega) (by omega)
    show m_checkMethods_399 fu k40 (m_checkMethods_399L fu k40 f) σ (nI p) x2 x3 x4 x5 x6 (nI s) x9 (nI t) (nI k) (nI j) = _
    unfold m_checkMethods_399 m_checkMethods_438
    rw [if_neg (nI_ge (by omega) (by omega)), ckIn_n (by omega) (by omega), ckIn_n (by omega) (by omega), nI_clamp (by omega), a2, c2, nx_eq, nI_1, m_wL 26, ih]
    have i1 := h.2.1.inj a1 e1.1
    have i2 := h.2.1.inj c1 g1.1
    rw [a3, e1.2] at i1
    rw [c3, g1.2] at i2
    have no : ¬ (n2 P (M j).1 = n2 P p ∧ n4 P (M j).1 = n4 P p) → (∀ i, j + 1 ≤ i → i < k → ¬ (n2 P (M i).1 = n2 P p ∧ n4 P (M i).1 = n4 P p)) = (∀ i, j ≤ i → i < k → ¬ (n2 P (M i).1 = n2 P p ∧ n4 P (M i).1 = n4 P p)) := fun w => propext ⟨fun z i i1 i2 => by
        rcases Nat.lt_or_ge j i with y | y
        · exact z i y i2
        · rw [show i = j by omega]
          exact w, fun z i i1 i2 => z i (by omega) i2⟩
    by_cases q1 : n2 P (M j).1 = n2 P p
    case neg =>
      rw [if_neg (fun w => q1 (i1.mp w)), no (fun w => q1 w.1)]
    rw [if_pos (i1.mpr q1)]
    by_cases q2 : n4 P (M j).1 = n4 P p
    case neg =>
      rw [if_neg (fun w => q2 (i2.mp w)), no (fun w => q2 w.2)]
    rw [if_pos (i2.mpr q2), ci_f (fun w => w j (Nat.le_refl _) (by omega) ⟨q1, q2⟩)]
/-- a method's name and flags -/
theorem m_m83 {k40 : SM → Int32 → Int32 → Int32 → Int32 → Int32 → Option (Int32 × SM)} {p : Nat} {x2 x3 x4 x5 : Int32} {face : Prop} (h : mPo P N S σ) (g : PG P) (hfu : 131072 < fu) (hp : p + 8 ≤ P.2.1) (h4 : x4 = 0 ↔ ¬ face) : ((m_u2 σ (nI p)).bind fun r2 => (m_u2 σ (nI p + (2 : Int32))).bind fun r4 => (m_tag σ r4).bind fun r6 => if r6 = (1 : Int32) then (m_u2 σ (nI p + (2 : Int32))).bind fun r9 => (m_symOf σ r9).bind fun r11 => m_checkMethods_83 fu k40 σ (nI p) x2 x3 x4 x5 r2 r11 else m_checkMethods_83 fu k40 σ (nI p) x2 x3 x4 x5 r2 (-1 : Int32)) = ci (mnP P face p) (ci (n2 P p = lT 11 ∨ mflP P face (n2 P p = lT 10) (U2 P.1 p)) (match m_symOf σ (nI (U2 P.1 (p + 2))) with
    | some s => m_checkMethods_183 fu k40 σ (nI p) x2 x3 x4 x5 (nI (U2 P.1 p)) s (bi (n2 P p = lT 10)) (bi (n2 P p = lT 11))
    | none => none) (some (0, mwr σ 23 p))) (some (0, mwr σ 24 (p + 2))) := by
  have hn := g.1
  have u0 := U2_lt P.1 p
  have u2 := U2_lt P.1 (p + 2)
  have t2 := tgP_lt P (U2 P.1 (p + 2))
  have e147 : m_checkMethods_147 fu σ (nI p) = some (0, mwr σ 24 (p + 2)) := by
    unfold m_checkMethods_147
    rw [nI_2]
    exact m_wL 24
  rw [m_u2_ok h.1.1 (by omega), Option.bind_some, nI_2, m_u2_ok h.1.1 (by omega), Option.bind_some, m_tag_ok h g u2, Option.bind_some]
  by_cases d1 : tgP P (U2 P.1 (p + 2)) = 1
  case neg =>
    rw [if_neg (nL (k := 1) (by omega) (by omega) d1), ci_f (fun w => d1 w.1)]
    unfold m_checkMethods_83 m_checkMethods_99 m_checkMethods_115
    rw [if_pos (show (-1 : Int32) < 0 by decide), if_pos (show (-1 : Int32) < 0 by decide), if_pos (show (-1 : Int32) < 0 by decide), if_pos (show (-1 : Int32) < 0 by decide), e147]
    split
    · split <;> rfl
    · split <;> rfl
  obtain ⟨s, s1, s2, s3, s4⟩ := m_sym h g d1
  have hs9 : nI s = σ.1 9 ↔ n2 P p = lT 10 := by
    have := h.2.1.i9 s2
    rw [s3] at this
    exact this
  have hs10 : nI s = σ.1 10 ↔ n2 P p = lT 11 := by
    have := h.2.1.i10 s2
    rw [s3] at this
    exact this
  have sN : s < 2 ^ 31 := by
    have := h.2.1.1.1
    omega
  rw [if_pos (show nI (tgP P (U2 P.1 (p + 2))) = (1 : Int32) by rw [d1]; rfl), Option.bind_some, s1, Option.bind_some]
  show m_checkMethods_83 fu k40 σ (nI p) x2 x3 x4 x5 (nI (U2 P.1 p)) (nI s) = ci _ (ci _ (m_checkMethods_183 fu k40 σ (nI p) x2 x3 x4 x5 (nI (U2 P.1 p)) (nI s) (bi (n2 P p = lT 10)) (bi (n2 P p = lT 11))) _) _
  have e1 : m_checkMethods_83 fu k40 σ (nI p) x2 x3 x4 x5 (nI (U2 P.1 p)) (nI s) = m_checkMethods_115 fu k40 σ (nI p) x2 x3 x4 x5 (nI (U2 P.1 p)) (nI s) (bi (n2 P p = lT 10)) (bi (n2 P p = lT 11)) := by
    unfold m_checkMethods_83 m_checkMethods_99
    by_cases q1 : n2 P p = lT 10
    · rw [if_pos (hs9.mpr q1), bi_t q1]
      by_cases q2 : n2 P p = lT 11
      · rw [if_pos (hs10.mpr q2), bi_t q2]
      · rw [if_neg (fun w => q2 (hs10.mp w)), bi_f q2]
    · rw [if_neg (fun w => q1 (hs9.mp w)), bi_f q1]
      by_cases q2 : n2 P p = lT 11
      · rw [if_pos (hs10.mpr q2), bi_t q2]
      · rw [if_neg (fun w => q2 (hs10.mp w)), bi_f q2]
  rw [e1]
  have hi : bi (n2 P p = lT 10) = 0 ↔ ¬ n2 P p = lT 10 := bi_0
  have hfl := m_flagsFit_ok (σ := σ) (P := P) (face := face) (x3 := x4) u0 h.1.2.2.2 hi h4
  have e157 : m_checkMethods_157 fu k40 σ (nI p) x2 x3 x4 x5 (nI (U2 P.1 p)) (nI s) (bi (n2 P p = lT 10)) (bi (n2 P p = lT 11)) = ci (n2 P p = lT 11 ∨ mflP P face (n2 P p = lT 10) (U2 P.1 p)) (m_checkMethods_183 fu k40 σ (nI p) x2 x3 x4 x5 (nI (U2 P.1 p)) (nI s) (bi (n2 P p = lT 10)) (bi (n2 P p = lT 11))) (some (0, mwr σ 23 p)) := by
    unfold m_checkMethods_157
    rw [hfl, Option.bind_some, m_wL 23]
    by_cases q2 : n2 P p = lT 11
    · rw [ib_t q2, ci_t (Or.inl q2)]
    rw [ib_f q2]
    by_cases q3 : mflP P face (n2 P p = lT 10) (U2 P.1 p)
    · rw [ib_t q3, ci_t (Or.inr q3)]
    · rw [ib_f q3, ci_f (fun w => w.elim q2 q3)]
  unfold m_checkMethods_115 m_checkMethods_137
  rw [e157, e147, if_neg (show ¬ nI s < 0 from nI_nlt (b := 0) (by omega) (by omega)), m_unqualified_ok s4 (by omega), Option.bind_some, show ((0 : Int32) = 0) = True from propext ⟨fun _ => trivial, fun _ => rfl⟩]
  unfold mnP
  generalize ci (n2 P p = lT 11 ∨ mflP P face (n2 P p = lT 10) (U2 P.1 p)) (m_checkMethods_183 fu k40 σ (nI p) x2 x3 x4 x5 (nI (U2 P.1 p)) (nI s) (bi (n2 P p = lT 10)) (bi (n2 P p = lT 11))) (some (0, mwr σ 23 p)) = X
  by_cases q2 : n2 P p = lT 11
  · rw [ib_t q2, ci_t ⟨d1, Or.inr (Or.inr q2)⟩]
  rw [ib_f q2]
  have un : ¬ (n2 P p = lT 10 ∧ ¬ face) → (if bi (PlainS (txP P (U2 P.1 (p + 2))) 0 (txP P (U2 P.1 (p + 2))).length True) = 0 then some (0, mwr σ 24 (p + 2)) else X) = ci (tgP P (U2 P.1 (p + 2)) = 1 ∧ (PlainS (n2 P p) 0 (n2 P p).length True ∨ (n2 P p = lT 10 ∧ ¬ face) ∨ n2 P p = lT 11)) X (some (0, mwr σ 24 (p + 2))) := fun w => by
    by_cases q3 : PlainS (txP P (U2 P.1 (p + 2))) 0 (txP P (U2 P.1 (p + 2))).length True
    · rw [ib_t q3, ci_t ⟨d1, Or.inl q3⟩]
    · rw [ib_f q3, ci_f (fun z => z.2.elim q3 (fun z => z.elim w q2))]
  by_cases q1 : n2 P p = lT 10
  · rw [ib_t q1]
    by_cases qf : face
    · rw [if_neg (fun w => (h4.mp w) qf)]
      exact un (fun w => w.2 qf)
    · rw [if_pos (h4.mpr qf), ci_t ⟨d1, Or.inr (Or.inl ⟨q1, qf⟩)⟩]
  · rw [ib_f q1]
    exact un (fun w => q1 w.1)
end MMth
