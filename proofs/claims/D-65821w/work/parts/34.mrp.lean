/-! the twin's readPool and readFile -/
section MRp
set_option maxRecDepth 100000
theorem eb_eb {α β γ : Type} {E : FE α} {f : α → FE β} {g : β → FE γ} : eb (eb E f) g = eb E fun a => eb (f a) g := by cases E <;> rfl
theorem eb_if {α β : Type} {P : Prop} [Decidable P] {a b : FE α} {g : α → FE β} : eb (if P then a else b) g = if P then eb a g else eb b g := by split <;> rfl
theorem mPI.pos {F : Nat → Int32} {n maj cnt k p q : Nat} {A : Nat → Nat} {T : Nat → List Nat} {σ : SM} (h : mPI F n maj cnt k p A T σ) (hq : p ≤ q) : mPI F n maj cnt k q A T (sf σ 50 (nI q)) := by
  obtain ⟨h1, h2, h3, h4, h5, N, S, h6, h7, h8, h9⟩ := h
  have f : mfr [50] [] σ (sf σ 50 (nI q)) := mfr.sf (by decide)
  exact ⟨f.mF h1 (by decide) (by decide) (by decide), sf_eq, (sf_ne (by decide)).trans h3, (sf_ne (by decide)).trans h4, (sf_ne (by decide)).trans h5, N, S, h6.fr f (by decide) (by decide), h7, by omega, h9⟩
theorem mPI.pos' {F : Nat → Int32} {n maj cnt k p q q0 : Nat} {A : Nat → Nat} {T : Nat → List Nat} {σ : SM} (h : mPI F n maj cnt k p A T σ) (hq : p ≤ q0) : mPI F n maj cnt k q0 A T (sf (sf σ 50 (nI q)) 50 (nI q0)) := by
  obtain ⟨h1, h2, h3, h4, h5, N, S, h6, h7, h8, h9⟩ := h
  have f : mfr [50] [] σ (sf (sf σ 50 (nI q)) 50 (nI q0)) := (mfr.sf (by decide)).tr (mfr.sf (by decide))
  exact ⟨f.mF h1 (by decide) (by decide) (by decide), sf_eq, (f.1 51 (by decide)).trans h3, (f.1 52 (by decide)).trans h4, (f.1 53 (by decide)).trans h5, N, S, h6.fr f (by decide) (by decide), h7, by omega, h9⟩
theorem m_gate {fu t maj : Nat} {k20 : SM → Int32 → Option (Int32 × SM)} {σ : SM} {x1 x3 : Int32} (ht : t < 256) (hm : maj < 65536) (h53 : σ.1 53 = nI maj) :
    (if nI t = (1 : Int32) then m_readPool_155 fu k20 σ x1 (nI t) x3 else if nI t < (3 : Int32) then m_readPool_92 fu k20 σ x1 (nI t) x3 else if nI t ≤ (12 : Int32) then m_readPool_155 fu k20 σ x1 (nI t) x3 else m_readPool_92 fu k20 σ x1 (nI t) x3) = m_readPool_160 fu k20 σ x1 (nI t) x3 (bi (goodT t maj)) := by
  have h140 : m_readPool_140 fu k20 σ x1 (nI t) x3 = m_readPool_160 fu k20 σ x1 (nI t) x3 (bi (t = 17 ∧ 55 ≤ maj)) := by
    unfold m_readPool_140 m_readPool_155 m_readPool_159
    rw [h53]
    simp (disch := (first | omega | decide)) only [nI_eqL, nI_leL, nI_ltL, nI_Lle, nI_Llt, nI_eq, nI_leI, nI_ltI]
    split
    · split
      · rw [bi_f (by omega)]
      · rw [bi_t (by omega)]
    · rw [bi_f (by omega)]
  have h119 : m_readPool_119 fu k20 σ x1 (nI t) x3 = m_readPool_160 fu k20 σ x1 (nI t) x3 (bi (((t = 19 ∨ t = 20) ∧ 53 ≤ maj) ∨ (t = 17 ∧ 55 ≤ maj))) := by
    unfold m_readPool_119 m_readPool_131 m_readPool_155
    rw [h53, h140]
    simp (disch := (first | omega | decide)) only [nI_eqL, nI_leL, nI_ltL, nI_Lle, nI_Llt, nI_eq, nI_leI, nI_ltI]
    split
    · split
      · rw [bi_t (by omega)]
      · rw [bi_f (by omega), bi_f (by omega)]
    · split
      · split
        · rw [bi_t (by omega)]
        · rw [bi_f (by omega), bi_f (by omega)]
      · exact congrArg _ (bi_iff (by omega))
  have h92 : m_readPool_92 fu k20 σ x1 (nI t) x3 = m_readPool_160 fu k20 σ x1 (nI t) x3 (bi (((t = 15 ∨ t = 16 ∨ t = 18) ∧ 51 ≤ maj) ∨ ((t = 19 ∨ t = 20) ∧ 53 ≤ maj) ∨ (t = 17 ∧ 55 ≤ maj))) := by
    have h110 : (t = 15 ∨ t = 16 ∨ t = 18) → m_readPool_110 fu k20 σ x1 (nI t) x3 = m_readPool_160 fu k20 σ x1 (nI t) x3 (bi (51 ≤ maj)) := by
      intro z
      unfold m_readPool_110 m_readPool_155
      rw [h53, h119]
      simp (disch := (first | omega | decide)) only [nI_eqL, nI_leL, nI_ltL, nI_Lle, nI_Llt, nI_eq, nI_leI, nI_ltI]
      split
      · rw [bi_t (by omega)]
      · rw [bi_f (by omega), bi_f (by omega)]
    unfold m_readPool_92
    rw [h119]
    simp (disch := (first | omega | decide)) only [nI_eqL, nI_leL, nI_ltL, nI_Lle, nI_Llt, nI_eq, nI_leI, nI_ltI]
    split
    · rw [h110 (by omega)]
      exact congrArg _ (bi_iff (by omega))
    · split
      · rw [h110 (by omega)]
        exact congrArg _ (bi_iff (by omega))
      · split
        · rw [h110 (by omega)]
          exact congrArg _ (bi_iff (by omega))
        · exact congrArg _ (bi_iff (by omega))
  rw [h92]
  unfold m_readPool_155
  simp (disch := (first | omega | decide)) only [nI_eqL, nI_leL, nI_ltL, nI_Lle, nI_Llt, nI_eq, nI_leI, nI_ltI]
  split
  · rw [bi_t (by omega)]
  · split
    · exact congrArg _ (bi_iff (by omega))
    · split
      · rw [bi_t (by omega)]
      · exact congrArg _ (bi_iff (by omega))
theorem decS_len {F : Nat → Int32} {e : Nat} : ∀ (f p : Nat) {t : List Nat}, decS F e f p = .ok t → p ≤ e → t.length + p ≤ e := by
  intro f
  induction f with
  | zero =>
    intro p t h hp
    cases h
    show 0 + p ≤ e
    omega
  | succ f ih =>
    intro p t h hp
    unfold decS at h
    split at h
    · cases h
      show 0 + p ≤ e
      omega
    rename_i hpe
    split at h
    · cases h
    split at h
    · obtain ⟨u, h1, h⟩ := eb_inv h
      cases h
      have := ih (p + 1) h1 (by omega)
      show u.length + 1 + p ≤ e
      omega
    split at h
    · split at h
      · rename_i hq
        obtain ⟨u, h1, h⟩ := eb_inv h
        cases h
        have := ih (p + 2) h1 (by omega)
        show u.length + 1 + p ≤ e
        omega
      · cases h
    · split at h
      · rename_i hq
        obtain ⟨u, h1, h⟩ := eb_inv h
        cases h
        have := ih (p + 3) h1 (by omega)
        show u.length + 1 + p ≤ e
        omega
      · cases h
theorem m_rp_loop {F : Nat → Int32} {n maj cnt fu : Nat} (hn : n ≤ 20000) (hmaj : maj < 65536) (hcnt : cnt < 65536) (hfu : 65536 < fu) : ∀ (f g k p : Nat) (A : Nat → Nat) (T : Nat → List Nat) (σ : SM), cnt - k < f → f ≤ g → k ≤ cnt → p ≤ n → 10 ≤ p → 3 * k + 7 ≤ p → (∀ i, k ≤ i → A i = 0) → mPI F n maj cnt k p A T σ →
    mRes [3, 8, 20, 47, 48, 50] [1, 2, 4, 5, 6, 7, 21, 22] (rpS F n maj cnt f k p A T) (fun r σ' => mPI F n maj cnt cnt r.1 r.2.1 r.2.2 σ' ∧ σ'.1 20 = nI cnt) σ (m_readPool_20L fu g σ (nI k)) := by
  intro f
  induction f with
  | zero => intro g k p A T σ h; omega
  | succ f ih =>
    intro g k p A T σ hf hg hk hp h10 h37 hA hI
    obtain ⟨g, rfl⟩ : ∃ z9, g = z9 + 1 := ⟨g - 1, by omega⟩
    show mRes _ _ _ _ σ (m_readPool_20 fu (m_readPool_20L fu g) σ (nI k))
    unfold m_readPool_20 rpS
    have hI0 := hI
    obtain ⟨h1, h2, h3, h4, h5, N, S, h6, h7, h8, h9⟩ := hI
    rw [h4]
    by_cases hc : cnt ≤ k
    · obtain rfl : k = cnt := by omega
      rw [if_pos hc, if_pos (nI_le (by omega) (by omega)), nx_eq, h3]
      refine mRes.fr (mfr.sf (k := 20) (v := 0 + nI k) (by decide)) ?_
      have fr : mfr [20] [] σ (sf σ 20 (0 + nI k)) := mfr.sf (by decide)
      have e0 : (0 : Int32) + nI k = nI k := by rw [show (0 : Int32) = nI 0 from rfl, nI_add, Nat.zero_add]
      refine mRes.ok ⟨⟨fr.mF h1 (by decide) (by decide) (by decide), (sf_ne (by decide)).trans h2, (sf_ne (by decide)).trans h3, (sf_ne (by decide)).trans h4, (sf_ne (by decide)).trans h5, N, S, h6.fr fr (by decide) (by decide), h7, h8, h9⟩, ?_⟩
      rw [sf_eq, e0]
    rw [if_neg hc, if_neg (nI_ge (by omega) (by omega))]
    unfold entS
    rw [eb_eb]
    refine (m_item_ok (k := 1) h1 h2 (by omega) (by omega) (by decide) (by decide)).bnd ?_
    rintro _ σ1 e1 rfl -
    have e1 := itS_ok e1
    have hb := U1_lt F p
    have k0 : (0 : Int32) + nI k = nI k := by rw [show (0 : Int32) = nI 0 from rfl, nI_add, Nat.zero_add]
    simp only [h2, m_u1_ok h1 (show p < n by omega), Option.bind_some, nx_eq, h3, k0, ckIn_n (show k < 65540 by omega) (by decide), nI_clamp (show k < 2 ^ 31 by omega), sa_1]
    generalize hs2 : sa (sa σ1 21 k (nI p)) 22 k (-1) = σ2
    have f2 : mfr [] [21, 22] σ1 σ2 := by rw [← hs2]; exact (mfr.sa (by decide)).tr (mfr.sa (by decide))
    rw [m_gate hb hmaj ((f2.1 53 (by decide)).trans h5)]
    refine mRes.fr (f2.mo (by decide) (by decide)) ?_
    have p21 : ∀ j, j ≠ k → σ2.2 21 j = σ1.2 21 j := fun j hj => by rw [← hs2, sa_nk (by decide), sa_ne hj]
    have p22 : ∀ j, j ≠ k → σ2.2 22 j = σ1.2 22 j := fun j hj => by rw [← hs2, sa_ne hj, sa_nk (by decide)]
    have v21 : σ2.2 21 k = nI p := by rw [← hs2, sa_nk (by decide), sa_eq]
    have F2 := f2.mF h1 (by decide) (by decide) (by decide)
    have S2 := h6.fr f2 (by decide) (by decide)
    have uk : uA A k p k = p := if_pos rfl
    have un : ∀ i, i ≠ k → uA A k p i = A i := fun i hi => if_neg hi
    have old : ∀ (t : List Nat) (N' : Nat) (S' : Nat → List Nat) (σ3 : SM), N ≤ N' → (∀ i, i < N → S' i = S i) → (∀ i, i ≠ k → σ3.2 21 i = σ1.2 21 i) → (∀ i, i ≠ k → σ3.2 22 i = σ1.2 22 i) → ∀ i, i < k → σ3.2 21 i = (if uA A k p i = 0 then -1 else nI (uA A k p i)) ∧ (uA A k p i ≠ 0 → U1 F (uA A k p i) = 1 → ∃ s, s < N' ∧ σ3.2 22 i = nI s ∧ S' s = uT T k t i) := by
      intro t N' S' σ3 hN hS q21 q22 i hi
      rw [un i (by omega), q21 i (by omega), q22 i (by omega), show uT T k t i = T i from if_neg (by omega)]
      refine ⟨(h9 i hi).1, fun a b => ?_⟩
      obtain ⟨s, c1, c2, c3⟩ := (h9 i hi).2 a b
      exact ⟨s, by omega, c2, by rw [hS s c1]; exact c3⟩
    -- what every entry but a text leaves
    have base : U1 F p ≠ 1 → ∀ t, mPI F n maj cnt (k + 1) p (uA A k p) (uT T k t) σ2 := by
      intro ht t
      refine ⟨F2, (f2.1 50 (by decide)).trans h2, (f2.1 51 (by decide)).trans h3, (f2.1 52 (by decide)).trans h4, (f2.1 53 (by decide)).trans h5, N, S, S2, by omega, h8, fun i hi => ?_⟩
      rcases Nat.lt_or_ge i k with z | z
      · exact old t N S σ2 (Nat.le_refl _) (fun _ _ => rfl) p21 p22 i z
      · obtain rfl : i = k := by omega
        rw [uk, if_neg (by omega)]
        exact ⟨v21, fun _ q => absurd q ht⟩
    have hst : stpT (U1 F p) = if U1 F p = 5 ∨ U1 F p = 6 then 2 else 1 := rfl
    -- the next round
    have cont : ∀ (q : Nat) (t : List Nat) (σ3 : SM), q ≤ n → p + 3 * stpT (U1 F p) ≤ q → (cnt ≤ k + 1 → ¬ (U1 F p = 5 ∨ U1 F p = 6)) → mPI F n maj cnt (k + 1) q (uA A k p) (uT T k t) σ3 → mRes [3, 8, 20, 47, 48, 50] [1, 2, 4, 5, 6, 7, 21, 22] (rpS F n maj cnt f (k + stpT (U1 F p)) q (uA A k p) (uT T k t)) (fun r σ' => mPI F n maj cnt cnt r.1 r.2.1 r.2.2 σ' ∧ σ'.1 20 = nI cnt) σ3 (m_readPool_499 fu (m_readPool_20L fu g) σ3 (nI k) (nI (U1 F p))) := by
      intro q t σ3 c2 c5 c4 hI3
      have hA2 : ∀ i, k + 1 ≤ i → uA A k p i = 0 := fun i hi => by rw [un i (by omega)]; exact hA i (by omega)
      unfold m_readPool_499
      by_cases ht : U1 F p = 5 ∨ U1 F p = 6
      · have e510 : (if nI (U1 F p) = (5 : Int32) then m_readPool_510 fu (m_readPool_20L fu g) σ3 (nI k) else if nI (U1 F p) = (6 : Int32) then m_readPool_510 fu (m_readPool_20L fu g) σ3 (nI k) else m_readPool_525 fu (m_readPool_20L fu g) σ3 (nI k)) = m_readPool_510 fu (m_readPool_20L fu g) σ3 (nI k) := by
          simp (disch := (first | omega | decide)) only [nI_eqL, nI_leL, nI_ltL, nI_Lle, nI_Llt, nI_eq, nI_leI, nI_ltI]
          rcases ht with z | z <;> rw [z] <;> rfl
        rw [e510, hst, if_pos ht]
        rw [hst, if_pos ht] at c5
        have hk2 : k + 1 < cnt := Nat.lt_of_not_le fun z => c4 z ht
        unfold m_readPool_510 m_readPool_525
        obtain ⟨a1, a2, a3, a4, a5, N3, S3, a6, a7, a8, a9⟩ := hI3
        have k1 : (0 : Int32) + nI (k + 1) = nI (k + 1) := by rw [show (0 : Int32) = nI 0 from rfl, nI_add, Nat.zero_add]
        rw [nx_eq, nI_1, a3, k1, ckIn_n (by omega) (by decide), nx_eq, nx_eq, nI_1, nI_clamp (by omega)]
        have f3 : mfr [] [21] σ3 (sa σ3 21 (k + 1) (-1)) := mfr.sa (by decide)
        refine mRes.fr (f3.mo (by decide) (by decide)) ?_
        refine ih g (k + 2) q _ _ _ (by omega) (by omega) (by omega) (by omega) (by omega) (by omega) (fun i hi => hA2 i (by omega)) ⟨f3.mF a1 (by decide) (by decide) (by decide), a2, a3, a4, a5, N3, S3, a6.fr f3 (by decide) (by decide), by omega, a8, fun i hi => ?_⟩
        rw [sa_nk (q := 22) (by decide)]
        rcases Nat.lt_or_ge i (k + 1) with z | z
        · rw [sa_ne (by omega)]
          exact a9 i z
        · obtain rfl : i = k + 1 := by omega
          rw [sa_eq, hA2 (k + 1) (Nat.le_refl _), if_pos rfl]
          exact ⟨rfl, fun z => absurd rfl z⟩
      · have e525 : (if nI (U1 F p) = (5 : Int32) then m_readPool_510 fu (m_readPool_20L fu g) σ3 (nI k) else if nI (U1 F p) = (6 : Int32) then m_readPool_510 fu (m_readPool_20L fu g) σ3 (nI k) else m_readPool_525 fu (m_readPool_20L fu g) σ3 (nI k)) = m_readPool_525 fu (m_readPool_20L fu g) σ3 (nI k) := by
          simp (disch := (first | omega | decide)) only [nI_eqL, nI_leL, nI_ltL, nI_Lle, nI_Llt, nI_eq, nI_leI, nI_ltI]
          rw [if_neg (by omega), if_neg (by omega)]
        rw [e525, hst, if_neg ht]
        rw [hst, if_neg ht] at c5
        unfold m_readPool_525
        rw [nx_eq, nI_1]
        exact ih g (k + 1) q _ _ _ (by omega) (by omega) (by omega) (by omega) (by omega) (by omega) hA2 hI3
    unfold m_readPool_160
    by_cases hg : goodT (U1 F p) maj
    case neg =>
      rw [if_pos (show ¬ goodT (U1 F p) maj from hg), bi_f hg, if_pos rfl, show (5 : Int32) = nI 5 from rfl, m_wr_ok]
      exact mRes.er (by decide) (by decide)
    rw [if_neg (show ¬ ¬ goodT (U1 F p) maj from fun z => z hg), bi_t hg, if_neg (show ¬ (1 : Int32) = 0 by decide)]
    by_cases h56 : (U1 F p = 5 ∨ U1 F p = 6) ∧ cnt ≤ k + 1
    · rw [if_pos h56]
      have e185 : (if nI (U1 F p) = (5 : Int32) then m_readPool_185 fu (m_readPool_20L fu g) σ2 (nI k) (nI (U1 F p)) (nI p) else if nI (U1 F p) = (6 : Int32) then m_readPool_185 fu (m_readPool_20L fu g) σ2 (nI k) (nI (U1 F p)) (nI p) else m_readPool_203 fu (m_readPool_20L fu g) σ2 (nI k) (nI (U1 F p))) = m_readPool_185 fu (m_readPool_20L fu g) σ2 (nI k) (nI (U1 F p)) (nI p) := by
        rcases h56.1 with z | z <;> rw [z] <;> rfl
      rw [e185]
      unfold m_readPool_185
      rw [f2.1 52 (by decide), h4, nI_1, if_neg (nI_nlt (by omega) (by omega)), show (7 : Int32) = nI 7 from rfl, m_wr_ok]
      exact mRes.er (by decide) (by decide)
    rw [if_neg h56]
    have e203 : (if nI (U1 F p) = (5 : Int32) then m_readPool_185 fu (m_readPool_20L fu g) σ2 (nI k) (nI (U1 F p)) (nI p) else if nI (U1 F p) = (6 : Int32) then m_readPool_185 fu (m_readPool_20L fu g) σ2 (nI k) (nI (U1 F p)) (nI p) else m_readPool_203 fu (m_readPool_20L fu g) σ2 (nI k) (nI (U1 F p))) = m_readPool_203 fu (m_readPool_20L fu g) σ2 (nI k) (nI (U1 F p)) := by
      have e185 : (U1 F p = 5 ∨ U1 F p = 6) → m_readPool_185 fu (m_readPool_20L fu g) σ2 (nI k) (nI (U1 F p)) (nI p) = m_readPool_203 fu (m_readPool_20L fu g) σ2 (nI k) (nI (U1 F p)) := by
        intro z
        unfold m_readPool_185
        rw [f2.1 52 (by decide), h4, nI_1, if_pos (nI_lt (by omega) (by omega))]
      simp (disch := (first | omega | decide)) only [nI_eqL, nI_leL, nI_ltL, nI_Lle, nI_Llt, nI_eq, nI_leI, nI_ltI]
      split
      · exact e185 (Or.inl (by assumption))
      · split
        · exact e185 (Or.inr (by assumption))
        · rfl
    rw [e203]
    unfold m_readPool_203
    have g50 : σ2.1 50 = nI p := (f2.1 50 (by decide)).trans h2
    rw [nx_eq, g50, nI_1]
    refine mRes.fr (mfr.sf (k := 50) (v := nI (p + 1)) (by decide)) ?_
    generalize hs3 : sf σ2 50 (nI (p + 1)) = σ3
    have f3 : mfr [50] [] σ2 σ3 := by rw [← hs3]; exact mfr.sf (by decide)
    have F3 := f3.mF F2 (by decide) (by decide) (by decide)
    have g3 : σ3.1 50 = nI (p + 1) := by rw [← hs3, sf_eq]
    by_cases t1 : U1 F p = 1
    · rw [if_pos t1, if_pos (show nI (U1 F p) = (1 : Int32) by rw [t1]; rfl), eb_eb]
      refine (m_item_ok (k := 2) F3 g3 (by omega) (by omega) (by decide) (by decide)).bnd ?_
      rintro _ σ4 e4 rfl -
      have e4 := itS_ok e4
      have hl := U2_lt F (p + 1)
      rw [g3, m_u2_ok F3 (by omega), Option.bind_some, nx_eq, nI_2, eb_eb]
      refine mRes.fr (mfr.sf (k := 50) (v := nI (p + 1 + 2)) (by decide)) ?_
      generalize hs5 : sf σ4 50 (nI (p + 1 + 2)) = σ5
      have f5 : mfr [50] [] σ4 σ5 := by rw [← hs5]; exact mfr.sf (by decide)
      have F5 := f5.mF F3 (by decide) (by decide) (by decide)
      have g5 : σ5.1 50 = nI (p + 3) := by rw [← hs5, sf_eq]
      rw [nI_l (by omega)]
      refine (m_item_ok (k := U2 F (p + 1)) F5 g5 (by omega) (by omega) (by decide) (by decide)).bnd ?_
      rintro _ σ6 e6 rfl -
      have e6 := itS_ok e6
      have ff : mfr [50] [21, 22] σ1 σ6 := (f2.mo (by decide) (by decide)).tr ((f3.mo (by decide) (by decide)).tr (f5.mo (by decide) (by decide)))
      rw [g5, ff.1 51 (by decide), h3, k0]
      unfold m_utf8 m_utf8_0
      rw [nx_eq, nI_add]
      have hu := m_utf8_loop (F := F) (n := n) (fu := fu) (e := p + 3 + U2 F (p + 1)) (N := N) (S0 := sta S N) (ent := k) (T := S) hn (by omega) hfu (by omega) (by omega) rfl (by omega) (U2 F (p + 1)) fu (p + 3) [] σ6 (by omega) (by omega) F5 (S2.fr ((f3.mo (by decide) (by decide)).tr (f5.mo (by decide) (by decide)) : mfr [50] [] σ2 σ6) (by decide) (by decide)) (by show 0 ≤ _; omega) (by omega) (fun k => by show 0 < _; omega) (fun k hk => absurd hk (by show ¬ k < 0; omega))
      rw [eb_eb]
      have hE : ∀ K : List Nat → FE (Nat × (Nat → Nat) × (Nat → List Nat)), eb (decS F (p + 3 + U2 F (p + 1)) (U2 F (p + 1)) (p + 3)) K = eb (eb (decS F (p + 3 + U2 F (p + 1)) (U2 F (p + 1)) (p + 3)) fun t => (.ok ([] ++ t) : FE (List Nat))) K := fun K => by
        cases decS F (p + 3 + U2 F (p + 1)) (U2 F (p + 1)) (p + 3) <;> rfl
      rw [hE]
      refine (hu.mo (L' := [3, 8, 20, 47, 48, 50]) (A' := [1, 2, 4, 5, 6, 7, 21, 22]) (Q' := fun t σ' => mUQ N (sta S N) S k σ6 t σ' ∧ mfr [3, 8, 47, 48] [1, 2, 4, 5, 6, 7, 22] σ6 σ') (by decide) (by decide) (fun a σ' _ q r => ⟨q, r⟩)).bnd ?_
      rintro t σ7 e7 ⟨⟨s, N', S', z1, z2, z3, z4, z5, z6, z7, z8, z9⟩, f7⟩ -
      have hlen : t.length + (p + 3) ≤ p + 3 + U2 F (p + 1) := by
        obtain ⟨t', q1, q2⟩ := eb_inv e7
        cases q2
        exact decS_len _ _ q1 (by omega)
      rw [nx_eq, f7.1 50 (by decide), g5, nI_add]
      refine mRes.fr (mfr.sf (k := 50) (v := nI (p + 3 + U2 F (p + 1))) (by decide)) ?_
      have f8 : mfr [50] [] σ7 (sf σ7 50 (nI (p + 3 + U2 F (p + 1)))) := mfr.sf (by decide)
      have f7b : mfr [3, 8, 47, 48, 50] [1, 2, 4, 5, 6, 7, 21, 22] σ1 (sf σ7 50 (nI (p + 3 + U2 F (p + 1)))) := (ff.mo (by decide) (by decide)).tr ((f7.mo (by decide) (by decide)).tr (f8.mo (by decide) (by decide)))
      have s22 : σ6.2 22 = σ2.2 22 := (f5.2 22 (by decide)).trans (f3.2 22 (by decide))
      have s21 : σ6.2 21 = σ2.2 21 := (f5.2 21 (by decide)).trans (f3.2 21 (by decide))
      refine cont _ t _ (by omega) (by rw [hst, if_neg (by omega)]; omega) (fun _ z => by omega) ⟨f7b.mF h1 (by decide) (by decide) (by decide), sf_eq, (f7b.1 51 (by decide)).trans h3, (f7b.1 52 (by decide)).trans h4, (f7b.1 53 (by decide)).trans h5, N', S', z1.fr f8 (by decide) (by decide), by omega, by omega, fun i hi => ?_⟩
      rw [sf_2]
      rcases Nat.lt_or_ge i k with z | z
      · exact old t N' S' σ7 z4 z7 (fun j hj => by rw [f7.2 21 (by decide), s21]; exact p21 j hj) (fun j hj => (z9 j hj).trans (by rw [s22]; exact p22 j hj)) i z
      · obtain rfl : i = k := by omega
        rw [uk, if_neg (by omega), f7.2 21 (by decide), s21]
        exact ⟨v21, fun _ _ => ⟨s, z2, z8, by rw [z3]; exact (if_pos rfl).symm⟩⟩
    have t1' : ¬ nI (U1 F p) = (1 : Int32) := fun z => t1 ((nI_eq (b := 1) (by omega) (by omega)).mp z)
    rw [if_neg t1, if_neg t1']
    -- a state that differs from σ2 in pos alone
    have pos : ∀ (q : Nat) (σ4 : SM), p ≤ q → mfr [50] [] σ2 σ4 → σ4.1 50 = nI q → ∀ t, mPI F n maj cnt (k + 1) q (uA A k p) (uT T k t) σ4 := by
      intro q σ4 hq f4 g4 t
      obtain ⟨a1, a2, a3, a4, a5, N4, S4, a6, a7, a8, a9⟩ := base t1 t
      refine ⟨f4.mF a1 (by decide) (by decide) (by decide), g4, (f4.1 51 (by decide)).trans a3, (f4.1 52 (by decide)).trans a4, (f4.1 53 (by decide)).trans a5, N4, S4, a6.fr f4 (by decide) (by decide), a7, by omega, fun i hi => ?_⟩
      rw [f4.2 21 (by decide), f4.2 22 (by decide)]
      exact a9 i hi
    have c56 : cnt ≤ k + 1 → ¬ (U1 F p = 5 ∨ U1 F p = 6) := fun z w => h56 ⟨w, z⟩
    by_cases t15 : U1 F p = 15
    · rw [if_pos t15, if_pos (show nI (U1 F p) = (15 : Int32) by rw [t15]; rfl), eb_eb]
      refine m_adv (k := 1) (j := 1) F3 g3 (by omega) (by omega) (by decide) (by decide) (by decide) fun e4 => ?_
      rw [eb_eb]
      have f4 : mfr [50] [] σ2 (sf σ3 50 (nI (p + 1 + 1))) := f3.tr (mfr.sf (by decide))
      refine m_adv (k := 2) (j := 2) (f4.mF F2 (by decide) (by decide) (by decide)) sf_eq (by omega) (by omega) (by decide) (by decide) (by decide) fun e5 => ?_
      have f5 : mfr [50] [] σ2 (sf (sf σ3 50 (nI (p + 1 + 1))) 50 (nI (p + 1 + 1 + 2))) := f4.tr (mfr.sf (by decide))
      exact cont (p + 4) [] _ (by omega) (by rw [hst, if_neg (by omega)]; omega) c56 (pos (p + 4) _ (by omega) f5 sf_eq [])
    rw [if_neg t15, if_neg (show ¬ nI (U1 F p) = (15 : Int32) from fun z => t15 ((nI_eq (b := 15) (by omega) (by omega)).mp z))]
    by_cases t34 : U1 F p = 3 ∨ U1 F p = 4
    · have e358 : ∀ o : Option (Int32 × SM), (if nI (U1 F p) = (3 : Int32) then m_readPool_358 fu (m_readPool_20L fu g) σ3 (nI k) (nI (U1 F p)) else if nI (U1 F p) = (4 : Int32) then m_readPool_358 fu (m_readPool_20L fu g) σ3 (nI k) (nI (U1 F p)) else o) = m_readPool_358 fu (m_readPool_20L fu g) σ3 (nI k) (nI (U1 F p)) := by
        intro o
        rcases t34 with z | z <;> rw [z] <;> rfl
      rw [if_pos t34, e358, eb_eb]
      unfold m_readPool_358
      refine m_adv (k := 4) (j := 4) F3 g3 (by omega) (by omega) (by decide) (by decide) (by decide) fun e4 => ?_
      have f4 : mfr [50] [] σ2 (sf σ3 50 (nI (p + 1 + 4))) := f3.tr (mfr.sf (by decide))
      exact cont (p + 5) [] _ (by omega) (by rw [hst, if_neg (by omega)]; omega) c56 (pos (p + 5) _ (by omega) f4 sf_eq [])
    rw [if_neg t34, if_neg (show ¬ nI (U1 F p) = (3 : Int32) from fun z => t34 (Or.inl ((nI_eq (b := 3) (by omega) (by omega)).mp z))), if_neg (show ¬ nI (U1 F p) = (4 : Int32) from fun z => t34 (Or.inr ((nI_eq (b := 4) (by omega) (by omega)).mp z)))]
    obtain ⟨h, hfu2⟩ : ∃ h, fu = h + 1 + 1 + 1 := ⟨fu - 3, by omega⟩
    by_cases t56 : U1 F p = 5 ∨ U1 F p = 6
    · have e394 : ∀ o : Option (Int32 × SM), (if nI (U1 F p) = (5 : Int32) then m_readPool_394 fu (m_readPool_20L fu g) σ3 (nI k) (nI (U1 F p)) else if nI (U1 F p) = (6 : Int32) then m_readPool_394 fu (m_readPool_20L fu g) σ3 (nI k) (nI (U1 F p)) else o) = m_readPool_394 fu (m_readPool_20L fu g) σ3 (nI k) (nI (U1 F p)) := by
        intro o
        rcases t56 with z | z <;> rw [z] <;> rfl
      have l1 : ∀ (m : Nat) (σ : SM) (x5 : Int32), m_readPool_397L fu (m_readPool_20L fu g) (m + 1) σ (nI k) (nI (U1 F p)) x5 = m_readPool_397 fu (m_readPool_20L fu g) (m_readPool_397L fu (m_readPool_20L fu g) m) σ (nI k) (nI (U1 F p)) x5 := fun _ _ _ => rfl
      rw [if_pos t56, e394, eb_eb]
      unfold m_readPool_394
      rw [show m_readPool_397L fu (m_readPool_20L fu g) fu σ3 (nI k) (nI (U1 F p)) 0 = _ from (congrArg (fun m => m_readPool_397L fu (m_readPool_20L fu g) m σ3 (nI k) (nI (U1 F p)) 0) hfu2).trans (l1 (h + 1 + 1) σ3 0)]
      unfold m_readPool_397
      rw [if_neg (show ¬ (2 : Int32) ≤ 0 by decide)]
      refine m_adv (k := 4) (j := 4) F3 g3 (by omega) (by omega) (by decide) (by decide) (by decide) fun e4 => ?_
      rw [eb_eb, nx_eq, l1]
      unfold m_readPool_397
      rw [if_neg (show ¬ (2 : Int32) ≤ 0 + 1 by decide)]
      have f4 : mfr [50] [] σ2 (sf σ3 50 (nI (p + 1 + 4))) := f3.tr (mfr.sf (by decide))
      refine m_adv (k := 4) (j := 4) (f4.mF F2 (by decide) (by decide) (by decide)) sf_eq (by omega) (by omega) (by decide) (by decide) (by decide) fun e5 => ?_
      rw [nx_eq, l1]
      unfold m_readPool_397
      rw [if_pos (show (2 : Int32) ≤ 0 + 1 + 1 by decide)]
      have f5 : mfr [50] [] σ2 (sf (sf σ3 50 (nI (p + 1 + 4))) 50 (nI (p + 1 + 4 + 4))) := f4.tr (mfr.sf (by decide))
      exact cont (p + 9) [] _ (by omega) (by rw [hst, if_pos t56]; omega) c56 (pos (p + 9) _ (by omega) f5 sf_eq [])
    rw [if_neg t56, if_neg (show ¬ nI (U1 F p) = (5 : Int32) from fun z => t56 (Or.inl ((nI_eq (b := 5) (by omega) (by omega)).mp z))), if_neg (show ¬ nI (U1 F p) = (6 : Int32) from fun z => t56 (Or.inr ((nI_eq (b := 6) (by omega) (by omega)).mp z)))]
    have l1 : ∀ (m : Nat) (σ : SM) (x5 : Int32), m_readPool_437L fu (m_readPool_20L fu g) (m + 1) σ (nI k) (nI (U1 F p)) x5 = m_readPool_437 fu (m_readPool_20L fu g) (m_readPool_437L fu (m_readPool_20L fu g) m) σ (nI k) (nI (U1 F p)) x5 := fun _ _ _ => rfl
    have e437 : ∀ (k437 : SM → Int32 → Int32 → Int32 → Option (Int32 × SM)) (σ : SM) (x5 : Int32), m_readPool_437 fu (m_readPool_20L fu g) k437 σ (nI k) (nI (U1 F p)) x5 = m_readPool_468 fu (m_readPool_20L fu g) k437 σ (nI k) (nI (U1 F p)) x5 (if twoT (U1 F p) then 2 else 1) x5 := by
      intro k437 σ x5
      unfold m_readPool_437 m_readPool_451 m_readPool_463
      simp (disch := (first | omega | decide)) only [nI_eqL, nI_leL, nI_ltL, nI_Lle, nI_Llt, nI_eq, nI_leI, nI_ltI]
      by_cases z : twoT (U1 F p)
      · rw [if_pos z]
        repeat' split
        all_goals first | rfl | (exfalso; omega)
      · rw [if_neg z]
        repeat' split
        all_goals first | rfl | (exfalso; omega)
    rw [show m_readPool_437L fu (m_readPool_20L fu g) fu σ3 (nI k) (nI (U1 F p)) 0 = _ from (congrArg (fun m => m_readPool_437L fu (m_readPool_20L fu g) m σ3 (nI k) (nI (U1 F p)) 0) hfu2).trans (l1 (h + 1 + 1) σ3 0), e437]
    by_cases t2 : twoT (U1 F p)
    · rw [if_pos t2, if_pos t2, eb_eb]
      unfold m_readPool_468
      rw [if_neg (show ¬ (2 : Int32) ≤ 0 by decide)]
      refine m_adv (k := 2) (j := 2) F3 g3 (by omega) (by omega) (by decide) (by decide) (by decide) fun e4 => ?_
      rw [eb_eb, nx_eq, l1, e437, if_pos t2]
      unfold m_readPool_468
      rw [if_neg (show ¬ (2 : Int32) ≤ 0 + 1 by decide)]
      have f4 : mfr [50] [] σ2 (sf σ3 50 (nI (p + 1 + 2))) := f3.tr (mfr.sf (by decide))
      refine m_adv (k := 2) (j := 2) (f4.mF F2 (by decide) (by decide) (by decide)) sf_eq (by omega) (by omega) (by decide) (by decide) (by decide) fun e5 => ?_
      rw [nx_eq, l1, e437, if_pos t2]
      unfold m_readPool_468
      rw [if_pos (show (2 : Int32) ≤ 0 + 1 + 1 by decide)]
      have f5 : mfr [50] [] σ2 (sf (sf σ3 50 (nI (p + 1 + 2))) 50 (nI (p + 1 + 2 + 2))) := f4.tr (mfr.sf (by decide))
      exact cont (p + 5) [] _ (by omega) (by rw [hst, if_neg (by omega)]; omega) c56 (pos (p + 5) _ (by omega) f5 sf_eq [])
    · rw [if_neg t2, if_neg t2, eb_eb]
      unfold m_readPool_468
      rw [if_neg (show ¬ (1 : Int32) ≤ 0 by decide)]
      refine m_adv (k := 2) (j := 2) F3 g3 (by omega) (by omega) (by decide) (by decide) (by decide) fun e4 => ?_
      rw [nx_eq, l1, e437, if_neg t2]
      unfold m_readPool_468
      rw [if_pos (show (1 : Int32) ≤ 0 + 1 by decide)]
      have f4 : mfr [50] [] σ2 (sf σ3 50 (nI (p + 1 + 2))) := f3.tr (mfr.sf (by decide))
      exact cont (p + 3) [] _ (by omega) (by rw [hst, if_neg (by omega)]; omega) c56 (pos (p + 3) _ (by omega) f4 sf_eq [])
/-- readPool() of the twin -/
theorem m_readPool_ok {F : Nat → Int32} {n maj cnt fu : Nat} {σ : SM} (hn : n ≤ 20000) (hmaj : maj < 65536) (hcnt : cnt < 65536) (h1 : 1 ≤ cnt) (hfu : 65536 < fu) (h10 : 10 ≤ n) (hF : mF F n σ) (h50 : σ.1 50 = nI 10) (h20 : σ.1 20 = 0) (h52 : σ.1 52 = nI cnt) (h53 : σ.1 53 = nI maj) {N : Nat} {S : Nat → List Nat} (hS : mSI N S σ) (hN : N ≤ 3) (hst : sta S N ≤ 40) :
    mRes [3, 8, 20, 47, 48, 50, 51] [1, 2, 4, 5, 6, 7, 21, 22] (rpS F n maj cnt cnt 1 10 (fun _ => 0) (fun _ => [])) (fun r σ' => mPI F n maj cnt cnt r.1 r.2.1 r.2.2 σ' ∧ σ'.1 20 = nI cnt) σ (m_readPool fu σ) := by
  unfold m_readPool m_readPool_0
  rw [nx_eq, h20, sf_eq, show ∀ {k : Option (Int32 × SM)}, ckIn 0 65540 k = k from ckIn_n (i := 0) (by decide) (by decide), nx_eq]
  have f1 : mfr [51] [21] σ (sa (sf σ 51 0) 21 (Int32.toNatClampNeg 0) (-1)) := (mfr.sf (by decide)).tr (mfr.sa (by decide))
  refine mRes.fr (f1.mo (by decide) (by decide)) ?_
  refine (m_rp_loop hn hmaj hcnt hfu cnt fu 1 10 _ _ _ (by omega) (by omega) (by omega) (by omega) (by omega) (by omega) (fun _ _ => rfl) ⟨f1.mF hF (by decide) (by decide) (by decide), (f1.1 50 (by decide)).trans h50, (show (sf σ 51 0).1 51 = 0 from sf_eq), (f1.1 52 (by decide)).trans h52, (f1.1 53 (by decide)).trans h53, N, S, hS.fr f1 (by decide) (by decide), by omega, by omega, fun i hi => ?_⟩).mo (by decide) (by decide) (fun _ _ _ q _ => q)
  obtain rfl : i = 0 := by omega
  exact ⟨sa_eq, fun z => absurd rfl z⟩
/-- the file's structure: where the pool's entries, the head, the members and the attributes lie -/
def fileS (F : Nat → Int32) (n : Nat) : FE ((Nat → Nat) × (Nat → List Nat) × Nat × Nat × Nat × Nat) :=
  eb (itS n 0 4) fun _ => if U4 F 0 ≠ 3405691582 then .error (2, 0) else
  eb (itS n 4 2) fun _ => eb (itS n 6 2) fun _ =>
  if U2 F 6 < 45 ∨ 61 < U2 F 6 ∨ (56 ≤ U2 F 6 ∧ U2 F 4 ≠ 0) then .error (3, 4) else
  eb (itS n 8 2) fun _ => if U2 F 8 = 0 then .error (4, 8) else
  eb (rpS F n (U2 F 6) (U2 F 8) (U2 F 8) 1 10 (fun _ => 0) (fun _ => [])) fun r =>
  eb (itS n r.1 2) fun _ => eb (itS n (r.1 + 2) 2) fun _ => eb (itS n (r.1 + 4) 2) fun _ => eb (itS n (r.1 + 6) 2) fun _ =>
  eb (skI n (U2 F (r.1 + 6)) (r.1 + 8)) fun q1 => eb (membS F n q1) fun q2 => eb (membS F n q2) fun q3 => eb (attrS F n q3) fun q4 =>
  if q4 = n then .ok (r.2.1, r.2.2, r.1, q1, q2, q3) else .error (8, q4)
def mFL : List Nat := [3, 8, 20, 47, 48, 50, 51, 52, 53, 54, 55, 56, 57]
def mFA : List Nat := [1, 2, 4, 5, 6, 7, 21, 22]
def mFQ (F : Nat → Int32) (n : Nat) (r : (Nat → Nat) × (Nat → List Nat) × Nat × Nat × Nat × Nat) (σ : SM) : Prop := mPI F n (U2 F 6) (U2 F 8) (U2 F 8) n r.1 r.2.1 σ ∧ σ.1 54 = nI r.2.2.1 ∧ σ.1 55 = nI r.2.2.2.1 ∧ σ.1 56 = nI r.2.2.2.2.1 ∧ σ.1 57 = nI r.2.2.2.2.2
theorem mPI.fr {F : Nat → Int32} {n maj cnt k p : Nat} {A : Nat → Nat} {T : Nat → List Nat} {σ σ' : SM} {L B : List Nat} (h : mPI F n maj cnt k p A T σ) (f : mfr L B σ σ') (h1 : (49 ∉ L ∧ 16 ∉ L ∧ 12 ∉ B) ∧ (50 ∉ L ∧ 51 ∉ L ∧ 52 ∉ L ∧ 53 ∉ L) ∧ ((8 ∉ L ∧ 3 ∉ L) ∧ 9 ∉ L ∧ 10 ∉ L ∧ 11 ∉ L) ∧ (1 ∉ B ∧ 4 ∉ B ∧ 5 ∉ B ∧ 6 ∉ B ∧ 7 ∉ B) ∧ 21 ∉ B ∧ 22 ∉ B) : mPI F n maj cnt k p A T σ' := by
  obtain ⟨a1, a2, a3, a4, a5, N, S, a6, a7, a8, a9⟩ := h
  refine ⟨f.mF a1 h1.1.1 h1.1.2.1 h1.1.2.2, (f.1 50 h1.2.1.1).trans a2, (f.1 51 h1.2.1.2.1).trans a3, (f.1 52 h1.2.1.2.2.1).trans a4, (f.1 53 h1.2.1.2.2.2).trans a5, N, S, a6.fr f h1.2.2.1 h1.2.2.2.1, a7, a8, fun i hi => ?_⟩
  rw [f.2 21 h1.2.2.2.2.1, f.2 22 h1.2.2.2.2.2]
  exact a9 i hi
theorem mPI.fr50 {F : Nat → Int32} {n maj cnt k p q : Nat} {A : Nat → Nat} {T : Nat → List Nat} {σ σ' : SM} {L B : List Nat} (h : mPI F n maj cnt k p A T σ) (f : mfr L B σ σ') (hq : σ'.1 50 = nI q) (hpq : p ≤ q) (h1 : (49 ∉ L ∧ 16 ∉ L ∧ 12 ∉ B) ∧ (51 ∉ L ∧ 52 ∉ L ∧ 53 ∉ L) ∧ ((8 ∉ L ∧ 3 ∉ L) ∧ 9 ∉ L ∧ 10 ∉ L ∧ 11 ∉ L) ∧ (1 ∉ B ∧ 4 ∉ B ∧ 5 ∉ B ∧ 6 ∉ B ∧ 7 ∉ B) ∧ 21 ∉ B ∧ 22 ∉ B) : mPI F n maj cnt k q A T σ' := by
  obtain ⟨a1, a2, a3, a4, a5, N, S, a6, a7, a8, a9⟩ := h
  refine ⟨f.mF a1 h1.1.1 h1.1.2.1 h1.1.2.2, hq, (f.1 51 h1.2.1.1).trans a3, (f.1 52 h1.2.1.2.1).trans a4, (f.1 53 h1.2.1.2.2).trans a5, N, S, a6.fr f h1.2.2.1 h1.2.2.2.1, a7, by omega, fun i hi => ?_⟩
  rw [f.2 21 h1.2.2.2.2.1, f.2 22 h1.2.2.2.2.2]
  exact a9 i hi
theorem m_adv0 {α : Type} {L A : List Nat} {F : Nat → Int32} {n p k : Nat} {q : Int32} {σ : SM} {f : Unit → FE α} {Q : α → SM → Prop} {G : SM → Option (Int32 × SM)} (hF : mF F n σ) (hp : σ.1 50 = nI p) (hpn : p ≤ 200000) (hk : k < 2 ^ 32) (h1 : 47 ∈ L) (h2 : 48 ∈ L) (h3 : 50 ∈ L)
    (kk : p + k ≤ n → mRes L A (f ()) Q (sf σ 50 q) (G (sf σ 50 q))) : mRes L A (eb (itS n p k) f) Q σ ((m_item σ (lN k)).bind fun r => if r.1 = 0 then some ((0 : Int32), r.2) else nx (sf r.2 50 q) G) := by
  refine (m_item_ok hF hp hpn hk h1 h2).bnd ?_
  rintro _ σ1 e rfl -
  have e := itS_ok e
  rw [nx_eq]
  exact mRes.fr (mfr.sf h3) (kk e)
end MRp
