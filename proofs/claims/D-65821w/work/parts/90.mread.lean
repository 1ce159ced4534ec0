/-! read: the twin -/
section MRead
set_option maxRecDepth 100000
variable {N fu : Nat} {S : Nat → List Nat} {σ : SM}
abbrev psL : List Nat := [3, 8, 9, 10, 11, 16, 20, 25, 26, 47, 48, 50, 51, 52, 53, 54, 55, 56, 57, 58, 59, 60, 61, 65, 66, 67, 68, 69, 70, 71, 72]
abbrev psA : List Nat := [1, 2, 4, 5, 6, 7, 12, 21, 22, 27, 28, 29, 30, 31, 32, 33, 34, 35, 36, 37, 38, 39, 40, 41, 42, 43, 44, 45, 46]
/-- bytes -/
def byB (F : Nat → Int32) (n : Nat) : Prop := ∀ i, i < n → vp_nar .byte (F i) = F i
theorem mRes.nB {α : Type} {L A : List Nat} {E : FE α} {Q : α → SM → Prop} {o : Option (Int32 × SM)} (h : mRes L A E Q σ o) : mRes L A E Q σ (o.bind fun r2 => ckN .boolean r2.1 (some (r2.1, r2.2))) := by
  cases E with
  | error e =>
    obtain ⟨s, k1, k2⟩ := h
    refine ⟨s, ?_, k2⟩
    rw [k1, Option.bind_some]
    exact ckN_0
  | ok a =>
    obtain ⟨s, k1, k2⟩ := h
    refine ⟨s, ?_, k2⟩
    rw [k1, Option.bind_some]
    exact ckN_1
theorem m_ps13 {F : Nat → Int32} {n : Nat} (hn : n ≤ 1300) (hfu : 131072 < fu) (hb : byB F n) (hN : N ≤ 3) (hst : sta S N ≤ 40) : ∀ d k f σ, k + d = n → d < f → σ.1 49 = 0 → σ.1 16 = nI n → σ.1 20 = 0 → σ.1 25 = 0 → σ.1 26 = 0 → mSI N S σ → mKn σ → (∀ i, i < n → σ.2 13 i = F i) → (∀ i, i < k → σ.2 12 i = F i) → mRes ckL9 psA (chkS F n) (fun K σ' => FO F n K.1 ∧ ∃ N S, mKp F n K N S σ') σ (m_parse_13_11L fu f σ (nI n) (nI k)) := by
  intro d
  induction d with
  | zero =>
    intro k f σ hk hf h49 h16 h20 h25 h26 hS hK hF h12
    obtain ⟨f, rfl⟩ : ∃ z9, f = z9 + 1 := ⟨f - 1, by omega⟩
    show mRes _ _ _ _ _ (m_parse_13_11 fu (m_parse_13_11L fu f) σ (nI n) (nI k))
    unfold m_parse_13_11
    rw [if_pos (nI_le (by omega) (by omega))]
    exact mRes.nB ((m_checkFile_ok hn hfu ⟨h49, h16, by omega, fun i hi => h12 i (by omega)⟩ h20 h25 h26 hS hN hst hK).mo (fun _ z => z) (by decide +kernel) (fun _ _ _ w _ => w))
  | succ d ih =>
    intro k f σ hk hf h49 h16 h20 h25 h26 hS hK hF h12
    obtain ⟨f, rfl⟩ : ∃ z9, f = z9 + 1 := ⟨f - 1, by omega⟩
    show mRes _ _ _ _ _ (m_parse_13_11 fu (m_parse_13_11L fu f) σ (nI n) (nI k))
    unfold m_parse_13_11
    rw [if_neg (nI_ge (by omega) (by omega)), ckIn_n (by omega) (by omega), ckIn_n (by omega) (by omega), nx_eq, nx_eq, nI_clamp (by omega), hF k (by omega), hb k (by omega), nI_1]
    have A1 : mfr [] [12] σ (sa σ 12 k (F k)) := mfr.sa (by decide)
    refine mRes.fr (A1.mo (by decide +kernel) (by decide +kernel)) (ih (k + 1) f _ (by omega) (by omega) h49 h16 h20 h25 h26 (hS.fr A1 (by decide) (by decide)) (hK.fr A1 (by decide) (by decide)) (fun i hi => ?_) (fun i hi => ?_))
    · rw [sa_nk (by decide)]
      exact hF i hi
    · by_cases w : i = k
      · rw [w, sa_eq]
      · rw [sa_ne w]
        exact h12 i (by omega)
theorem m_parse13_ok {F : Nat → Int32} {n : Nat} (hn : n ≤ 1300) (hfu : 131072 < fu) (hb : byB F n) (h49 : σ.1 49 = 0) (hK : mKn σ) (hF : ∀ i, i < n → σ.2 13 i = F i) : mRes psL psA (chkS F n) (fun K σ' => FO F n K.1 ∧ ∃ N S, mKp F n K N S σ') σ (m_parse_13 fu σ (nI n)) := by
  obtain ⟨N, S, σ1, a1, a2, a3, a4, a5, a6, a7, a8⟩ := m_clear_ok (fu := fu) (σ := σ) (by omega)
  unfold m_parse_13 m_parse_13_0
  rw [a1, Option.bind_some, nx_eq]
  have A2 : mfr [3, 8, 9, 10, 11, 16, 20, 25, 26] [1, 2, 4, 5, 6, 7] σ (sf σ1 16 (nI n)) := (a8.mo (by decide) (by decide)).tr (mfr.sf (by decide))
  refine mRes.fr (A2.mo (by decide +kernel) (by decide +kernel)) ?_
  have A1 : mfr [16] [] σ1 (sf σ1 16 (nI n)) := mfr.sf (by decide)
  refine (m_ps13 hn hfu hb a3 a4 n 0 fu _ (by omega) (by omega) ((A2.1 49 (by decide)).trans h49) sf_eq ((A1.1 20 (by decide)).trans a5) ((A1.1 25 (by decide)).trans a6) ((A1.1 26 (by decide)).trans a7) (a2.fr A1 (by decide) (by decide)) (hK.fr A2 (by decide) (by decide)) (fun i hi => ?_) (fun i hi => by omega)).mo (by decide +kernel) (fun _ z => z) (fun _ _ _ w _ => w)
  rw [A2.2 13 (by decide)]
  exact hF i hi
theorem m_ps14 {F : Nat → Int32} {n : Nat} (hn : n ≤ 1300) (hfu : 131072 < fu) (hb : byB F n) (hN : N ≤ 3) (hst : sta S N ≤ 40) : ∀ d k f σ, k + d = n → d < f → σ.1 49 = 0 → σ.1 16 = nI n → σ.1 20 = 0 → σ.1 25 = 0 → σ.1 26 = 0 → mSI N S σ → mKn σ → (∀ i, i < n → σ.2 14 i = F i) → (∀ i, i < k → σ.2 12 i = F i) → mRes ckL9 psA (chkS F n) (fun K σ' => FO F n K.1 ∧ ∃ N S, mKp F n K N S σ') σ (m_parse_14_11L fu f σ (nI n) (nI k)) := by
  intro d
  induction d with
  | zero =>
    intro k f σ hk hf h49 h16 h20 h25 h26 hS hK hF h12
    obtain ⟨f, rfl⟩ : ∃ z9, f = z9 + 1 := ⟨f - 1, by omega⟩
    show mRes _ _ _ _ _ (m_parse_14_11 fu (m_parse_14_11L fu f) σ (nI n) (nI k))
    unfold m_parse_14_11
    rw [if_pos (nI_le (by omega) (by omega))]
    exact mRes.nB ((m_checkFile_ok hn hfu ⟨h49, h16, by omega, fun i hi => h12 i (by omega)⟩ h20 h25 h26 hS hN hst hK).mo (fun _ z => z) (by decide +kernel) (fun _ _ _ w _ => w))
  | succ d ih =>
    intro k f σ hk hf h49 h16 h20 h25 h26 hS hK hF h12
    obtain ⟨f, rfl⟩ : ∃ z9, f = z9 + 1 := ⟨f - 1, by omega⟩
    show mRes _ _ _ _ _ (m_parse_14_11 fu (m_parse_14_11L fu f) σ (nI n) (nI k))
    unfold m_parse_14_11
    rw [if_neg (nI_ge (by omega) (by omega)), ckIn_n (by omega) (by omega), ckIn_n (by omega) (by omega), nx_eq, nx_eq, nI_clamp (by omega), hF k (by omega), hb k (by omega), nI_1]
    have A1 : mfr [] [12] σ (sa σ 12 k (F k)) := mfr.sa (by decide)
    refine mRes.fr (A1.mo (by decide +kernel) (by decide +kernel)) (ih (k + 1) f _ (by omega) (by omega) h49 h16 h20 h25 h26 (hS.fr A1 (by decide) (by decide)) (hK.fr A1 (by decide) (by decide)) (fun i hi => ?_) (fun i hi => ?_))
    · rw [sa_nk (by decide)]
      exact hF i hi
    · by_cases w : i = k
      · rw [w, sa_eq]
      · rw [sa_ne w]
        exact h12 i (by omega)
theorem m_parse14_ok {F : Nat → Int32} {n : Nat} (hn : n ≤ 1300) (hfu : 131072 < fu) (hb : byB F n) (h49 : σ.1 49 = 0) (hK : mKn σ) (hF : ∀ i, i < n → σ.2 14 i = F i) : mRes psL psA (chkS F n) (fun K σ' => FO F n K.1 ∧ ∃ N S, mKp F n K N S σ') σ (m_parse_14 fu σ (nI n)) := by
  obtain ⟨N, S, σ1, a1, a2, a3, a4, a5, a6, a7, a8⟩ := m_clear_ok (fu := fu) (σ := σ) (by omega)
  unfold m_parse_14 m_parse_14_0
  rw [a1, Option.bind_some, nx_eq]
  have A2 : mfr [3, 8, 9, 10, 11, 16, 20, 25, 26] [1, 2, 4, 5, 6, 7] σ (sf σ1 16 (nI n)) := (a8.mo (by decide) (by decide)).tr (mfr.sf (by decide))
  refine mRes.fr (A2.mo (by decide +kernel) (by decide +kernel)) ?_
  have A1 : mfr [16] [] σ1 (sf σ1 16 (nI n)) := mfr.sf (by decide)
  refine (m_ps14 hn hfu hb a3 a4 n 0 fu _ (by omega) (by omega) ((A2.1 49 (by decide)).trans h49) sf_eq ((A1.1 20 (by decide)).trans a5) ((A1.1 25 (by decide)).trans a6) ((A1.1 26 (by decide)).trans a7) (a2.fr A1 (by decide) (by decide)) (hK.fr A2 (by decide) (by decide)) (fun i hi => ?_) (fun i hi => by omega)).mo (by decide +kernel) (fun _ z => z) (fun _ _ _ w _ => w)
  rw [A2.2 14 (by decide)]
  exact hF i hi
abbrev KO : Type := Option ((Nat → Int32) × Nat × CR)
/-- the twin between calls: what it keeps -/
def mIV (kp : KO) (σ : SM) : Prop := σ.1 49 = 0 ∧ mKn σ ∧ match kp with
  | none => σ.1 18 = -1
  | some k => σ.1 18 = nI k.2.1 ∧ k.2.1 ≤ 1300 ∧ byB k.1 k.2.1 ∧ (∀ i, i < k.2.1 → σ.2 14 i = k.1 i) ∧ chkS k.1 k.2.1 = .ok k.2.2 ∧ FO k.1 k.2.1 k.2.2.1 ∧ ∃ N S, mKp k.1 k.2.1 k.2.2 N S σ
theorem mV3.fr {F : Nat → Int32} {a : Nat → Nat} {σ σ' : SM} {L A : List Nat} (h : mV3 F a σ) (f : mfr L A σ σ') (h1 : 65 ∉ L ∧ 66 ∉ L ∧ 68 ∉ L ∧ 69 ∉ L ∧ 70 ∉ L ∧ 71 ∉ L ∧ 72 ∉ L) : mV3 F a σ' := by
  obtain ⟨v1, v2, v3, v4, v5, v6⟩ := h
  refine ⟨(f.1 66 h1.2.1).trans v1, (f.1 65 h1.1).trans v2, (f.1 68 h1.2.2.1).trans v3, (f.1 69 h1.2.2.2.1).trans v4, (f.1 72 h1.2.2.2.2.2.2).trans v5, ?_⟩
  rw [f.1 70 h1.2.2.2.2.1, f.1 71 h1.2.2.2.2.2.1]
  exact v6
theorem mKp.fr {F : Nat → Int32} {n : Nat} {K : CR} {σ σ' : SM} {L A : List Nat} (h : mKp F n K N S σ) (f : mfr L A σ σ') (hL : ∀ k, k ∈ L → k ∉ psL ∧ k ≠ 49) (hA : ∀ k, k ∈ A → k ∉ psA) : mKp F n K N S σ' := by
  obtain ⟨a1, ⟨b1, b2, b3, b4, b5⟩, a3, a4, a5⟩ := h
  have nL : ∀ k, k ∈ psL → k ∉ L := fun k hk w => (hL k w).1 hk
  have nA : ∀ k, k ∈ psA → k ∉ A := fun k hk w => hA k w hk
  refine ⟨a1.fr f ⟨⟨fun w => (hL 49 w).2 rfl, nL 16 (by decide), nL 51 (by decide), nL 52 (by decide), nL 53 (by decide)⟩, ⟨nL 8 (by decide), nL 3 (by decide)⟩, nL 9 (by decide), nL 10 (by decide), nL 11 (by decide)⟩ ⟨⟨nA 12 (by decide), nA 21 (by decide), nA 22 (by decide)⟩, nA 1 (by decide), nA 4 (by decide), nA 5 (by decide), nA 6 (by decide), nA 7 (by decide)⟩, ⟨(f.1 54 (nL 54 (by decide))).trans b1, (f.1 58 (nL 58 (by decide))).trans b2, (f.1 61 (nL 61 (by decide))).trans b3, (f.1 25 (nL 25 (by decide))).trans b4, (f.1 26 (nL 26 (by decide))).trans b5⟩, fun j hj => (a3 j hj).fr (fun k hk => ?_), fun j hj => (a4 j hj).fr (fun k hk => ?_), a5.fr f ⟨nL 65 (by decide), nL 66 (by decide), nL 68 (by decide), nL 69 (by decide), nL 70 (by decide), nL 71 (by decide), nL 72 (by decide)⟩⟩
  · rw [f.2 k (nA k (by revert k; decide +kernel))]
  · rw [f.2 k (nA k (by revert k; decide +kernel))]
theorem mIV.fr {kp : KO} {σ σ' : SM} {L A : List Nat} (h : mIV kp σ) (f : mfr L A σ σ') (hL : ∀ k, k ∈ L → k ∉ psL ∧ k ≠ 49) (h18 : 18 ∉ L) (hA : ∀ k, k ∈ A → k ∉ psA) (hA2 : 14 ∉ A ∧ 63 ∉ A ∧ 64 ∉ A) : mIV kp σ' := by
  obtain ⟨a1, a2, a3⟩ := h
  refine ⟨(f.1 49 (fun w => (hL 49 w).2 rfl)).trans a1, a2.fr f hA2.2.1 hA2.2.2, ?_⟩
  cases kp with
  | none => exact (f.1 18 h18).trans a3
  | some k =>
    obtain ⟨b1, b2, b3, b4, b5, b6, N, S, b7⟩ := a3
    exact ⟨(f.1 18 h18).trans b1, b2, b3, fun i hi => by rw [f.2 14 hA2.1]; exact b4 i hi, b5, b6, N, S, b7.fr f hL hA⟩
/-- the class is kept: its bytes are put down -/
theorem m_keep {F : Nat → Int32} {n : Nat} {x2 : Int32} (hn : n ≤ 1300) (hfu : 131072 < fu) (hb : byB F n) : ∀ d k f σ, k + d = n → d < f → σ.1 17 = nI n → (∀ i, i < n → σ.2 13 i = F i) → (∀ i, i < k → σ.2 14 i = F i) → ∃ σ', m_read_53L fu f σ x2 (nI k) = some (x2, σ') ∧ σ'.1 18 = nI n ∧ σ'.1 74 = -1 ∧ σ'.1 17 = 0 ∧ (∀ i, i < n → σ'.2 14 i = F i) ∧ mfr [17, 18, 74] [14] σ σ' := by
  intro d
  induction d with
  | zero =>
    intro k f σ hk hf h17 hF h14
    obtain ⟨f, rfl⟩ : ∃ z9, f = z9 + 1 := ⟨f - 1, by omega⟩
    show ∃ σ', m_read_53 fu (m_read_53L fu f) σ x2 (nI k) = _ ∧ _
    unfold m_read_53 m_read_110
    rw [h17, if_pos (nI_le (by omega) (by omega))]
    simp only [nx_eq]
    refine ⟨_, rfl, ?_, ?_, sf_eq, fun i hi => h14 i (by omega), (mfr.sf (by decide)).tr ((mfr.sf (by decide)).tr (mfr.sf (by decide)))⟩
    · rw [sf_ne (by decide), sf_ne (by decide), sf_eq]
    · rw [sf_ne (by decide), sf_eq]
  | succ d ih =>
    intro k f σ hk hf h17 hF h14
    obtain ⟨f, rfl⟩ : ∃ z9, f = z9 + 1 := ⟨f - 1, by omega⟩
    show ∃ σ', m_read_53 fu (m_read_53L fu f) σ x2 (nI k) = _ ∧ _
    unfold m_read_53
    rw [h17, if_neg (nI_ge (by omega) (by omega)), ckIn_n (by omega) (by omega), ckIn_n (by omega) (by omega), nx_eq, nx_eq, nI_clamp (by omega), hF k (by omega), hb k (by omega), nI_1]
    have A1 : mfr [17, 18, 74] [14] σ (sa σ 14 k (F k)) := mfr.sa (by decide)
    obtain ⟨σ', e1, e2, e3, e4, e5, e6⟩ := ih (k + 1) f (sa σ 14 k (F k)) (by omega) (by omega) h17 (fun i hi => by rw [sa_nk (by decide)]; exact hF i hi) (fun i hi => by
      by_cases w : i = k
      · rw [w, sa_eq]
      · rw [sa_ne w]
        exact h14 i (by omega))
    exact ⟨σ', e1, e2, e3, e4, e5, A1.tr e6⟩
def rdK (kp : KO) (F : Nat → Int32) (n : Nat) (E : FE CR) : KO := match E with
  | .error _ => kp
  | .ok K => some (F, n, K)
def rdR (E : FE CR) : Int32 := match E with
  | .error e => nI e.1
  | .ok _ => 0
def rdP (E : FE CR) : Int32 := match E with
  | .error e => nI e.2
  | .ok _ => -1
abbrev rdL : List Nat := [0, 3, 8, 9, 10, 11, 16, 17, 18, 20, 25, 26, 47, 48, 50, 51, 52, 53, 54, 55, 56, 57, 58, 59, 60, 61, 65, 66, 67, 68, 69, 70, 71, 72, 73, 74]
abbrev rdA : List Nat := [1, 2, 4, 5, 6, 7, 12, 14, 21, 22, 27, 28, 29, 30, 31, 32, 33, 34, 35, 36, 37, 38, 39, 40, 41, 42, 43, 44, 45, 46]
theorem m_read_ok {F : Nat → Int32} {n : Nat} {kp : KO} (hn : n ≤ 1300) (hfu : 131072 < fu) (hb : byB F n) (h : mIV kp σ) (h17 : σ.1 17 = nI n) (hF : ∀ i, i < n → σ.2 13 i = F i) : ∃ σ', m_read fu σ = some (rdR (chkS F n), σ') ∧ mIV (rdK kp F n (chkS F n)) σ' ∧ σ'.1 73 = rdP (chkS F n) ∧ σ'.1 74 = -1 ∧ σ'.1 17 = 0 ∧ σ'.1 0 = 0 ∧ mfr rdL rdA σ σ' := by
  unfold m_read m_read_0
  rw [nx_eq]
  have A0 : mfr [0] [] σ (sf σ 0 0) := mfr.sf (by decide)
  have h0 := h.fr A0 (by decide +kernel) (by decide) (by decide) (by decide)
  have z0 : (sf σ 0 0).1 0 = 0 := sf_eq
  have z17 : (sf σ 0 0).1 17 = nI n := (A0.1 17 (by decide)).trans h17
  have zF : ∀ i, i < n → (sf σ 0 0).2 13 i = F i := hF
  generalize sf σ 0 0 = σ0 at *
  rw [z17]
  have R := m_parse13_ok (fu := fu) hn hfu hb h0.1 h0.2.1 zF
  revert R
  cases hE : chkS F n with
  | error e =>
    rintro ⟨σ1, a1, a2, a3, a4⟩
    rw [a1, Option.bind_some, nx_eq, if_pos rfl]
    unfold m_read_31
    rw [nx_eq, if_pos rfl, a3, sf_ne (by decide), a2]
    unfold m_read_46
    rw [if_pos rfl]
    have A2 : mfr [73] [] σ1 (sf σ1 73 (nI e.2)) := mfr.sf (by decide)
    have y73 : (sf σ1 73 (nI e.2)).1 73 = nI e.2 := sf_eq
    have A12 : mfr rdL rdA σ (sf σ1 73 (nI e.2)) := (A0.mo (by decide +kernel) (by decide +kernel)).tr ((a4.mo (by decide +kernel) (by decide +kernel)).tr (A2.mo (by decide +kernel) (by decide +kernel)))
    have y18 : (sf σ1 73 (nI e.2)).1 18 = σ0.1 18 := (A2.1 18 (by decide)).trans (a4.1 18 (by decide +kernel))
    have y0 : (sf σ1 73 (nI e.2)).1 0 = 0 := (A2.1 0 (by decide)).trans ((a4.1 0 (by decide +kernel)).trans z0)
    have y49 : (sf σ1 73 (nI e.2)).1 49 = 0 := (A2.1 49 (by decide)).trans ((a4.1 49 (by decide +kernel)).trans h0.1)
    have yK : mKn (sf σ1 73 (nI e.2)) := (h0.2.1.fr a4 (by decide +kernel) (by decide +kernel)).fr A2 (by decide) (by decide)
    have y14 : ∀ i, (sf σ1 73 (nI e.2)).2 14 i = σ0.2 14 i := fun i => by rw [A2.2 14 (by decide), a4.2 14 (by decide +kernel)]
    generalize sf σ1 73 (nI e.2) = σ2 at *
    have endW : ∀ σ3 : SM, ∃ σ4, m_read_110 fu σ3 (nI e.1) = some (nI e.1, σ4) ∧ σ4.1 74 = -1 ∧ σ4.1 17 = 0 ∧ mfr [17, 74] [] σ3 σ4 := fun σ3 => ⟨sf (sf σ3 74 (-1)) 17 0, rfl, by rw [sf_ne (by decide), sf_eq], sf_eq, (mfr.sf (by decide)).tr (mfr.sf (by decide))⟩
    have h0k := h0.2.2
    cases kp with
    | none =>
      have h0k : σ0.1 18 = -1 := h0k
      rw [y18, h0k, if_pos (show (-1 : Int32) < 0 by decide)]
      obtain ⟨σ4, w1, w2, w3, w4⟩ := endW σ2
      exact ⟨σ4, w1, ⟨(w4.1 49 (by decide)).trans y49, yK.fr w4 (by decide) (by decide), (w4.1 18 (by decide)).trans (y18.trans h0k)⟩, (w4.1 73 (by decide)).trans y73, w2, w3, (w4.1 0 (by decide)).trans y0, A12.tr (w4.mo (by decide +kernel) (by decide +kernel))⟩
    | some k =>
      obtain ⟨b1, b2, b3, b4, b5, b6, b7⟩ := h0k
      rw [y18, b1, if_neg (show ¬ nI k.2.1 < 0 from nI_nlt (b := 0) (by omega) (by omega))]
      have R2 := m_parse14_ok (fu := fu) b2 hfu b3 y49 yK (fun i hi => (y14 i).trans (b4 i hi))
      rw [b5] at R2
      obtain ⟨σ3, d1, ⟨-, N, S, d2⟩, d3⟩ := R2
      rw [d1, Option.bind_some]
      obtain ⟨σ4, w1, w2, w3, w4⟩ := endW σ3
      refine ⟨σ4, w1, ⟨(w4.1 49 (by decide)).trans ((d3.1 49 (by decide +kernel)).trans y49), (yK.fr d3 (by decide +kernel) (by decide +kernel)).fr w4 (by decide) (by decide), ?_⟩, (w4.1 73 (by decide)).trans ((d3.1 73 (by decide +kernel)).trans y73), w2, w3, (w4.1 0 (by decide)).trans ((d3.1 0 (by decide +kernel)).trans y0), A12.tr ((d3.mo (by decide +kernel) (by decide +kernel)).tr (w4.mo (by decide +kernel) (by decide +kernel)))⟩
      refine ⟨(w4.1 18 (by decide)).trans ((d3.1 18 (by decide +kernel)).trans (y18.trans b1)), b2, b3, fun i hi => ?_, b5, b6, N, S, d2.fr w4 (by decide +kernel) (by decide)⟩
      rw [w4.2 14 (by decide), d3.2 14 (by decide +kernel), y14]
      exact b4 i hi
  | ok K =>
    rintro ⟨σ1, a1, ⟨hFO, N, S, a2⟩, a4⟩
    rw [a1, Option.bind_some, nx_eq, if_neg i10]
    unfold m_read_31
    rw [nx_eq, if_neg i10]
    unfold m_read_46
    rw [if_neg i10]
    have A2 : mfr [73] [] σ1 (sf σ1 73 (-1)) := mfr.sf (by decide)
    have y73 : (sf σ1 73 (-1)).1 73 = -1 := sf_eq
    have A12 : mfr rdL rdA σ (sf σ1 73 (-1)) := (A0.mo (by decide +kernel) (by decide +kernel)).tr ((a4.mo (by decide +kernel) (by decide +kernel)).tr (A2.mo (by decide +kernel) (by decide +kernel)))
    have y0 : (sf σ1 73 (-1)).1 0 = 0 := (A2.1 0 (by decide)).trans ((a4.1 0 (by decide +kernel)).trans z0)
    have y17 : (sf σ1 73 (-1)).1 17 = nI n := (A2.1 17 (by decide)).trans ((a4.1 17 (by decide +kernel)).trans z17)
    have y49 : (sf σ1 73 (-1)).1 49 = 0 := (A2.1 49 (by decide)).trans ((a4.1 49 (by decide +kernel)).trans h0.1)
    have yK : mKn (sf σ1 73 (-1)) := (h0.2.1.fr a4 (by decide +kernel) (by decide +kernel)).fr A2 (by decide) (by decide)
    have y13 : ∀ i, i < n → (sf σ1 73 (-1)).2 13 i = F i := fun i hi => by
      rw [A2.2 13 (by decide), a4.2 13 (by decide +kernel)]
      exact zF i hi
    have yp := a2.fr A2 (by decide +kernel) (by decide)
    generalize sf σ1 73 (-1) = σ2 at *
    obtain ⟨σ3, d1, d2, d3, d4, d5, d6⟩ := m_keep (fu := fu) (x2 := 0) hn hfu hb n 0 fu σ2 (by omega) (by omega) y17 y13 (fun i hi => by omega)
    refine ⟨σ3, d1, ⟨(d6.1 49 (by decide)).trans y49, yK.fr d6 (by decide) (by decide), d2, hn, hb, d5, hE, hFO, N, S, yp.fr d6 (by decide +kernel) (by decide +kernel)⟩, (d6.1 73 (by decide)).trans y73, d3, d4, (d6.1 0 (by decide)).trans y0, A12.tr (d6.mo (by decide +kernel) (by decide +kernel))⟩
end MRead
