/-! the pool: what is read; the twin's reading -/
section MPool
set_option maxRecDepth 100000
def lT (j : Nat) : List Nat := (mByt.getD j []).map Int32.toNatClampNeg
theorem lT_ok : ∀ j, j < 15 → (lT j).length = lx j ∧ lx j ≤ 202 ∧ ∀ i, i < lx j → cx j i = nI (ch (lT j) i) ∧ ch (lT j) i < 256 := by decide +kernel
theorem ch_out {t : List Nat} {k : Nat} (h : t.length ≤ k) : ch t k = 0 := by
  unfold ch
  rw [List.getD_eq_getElem?_getD, List.getElem?_eq_none h]
  rfl
theorem lT_ch {j : Nat} (hj : j < 15) (k : Nat) : ch (lT j) k < 65536 := by
  obtain ⟨h1, h2, h3⟩ := lT_ok j hj
  rcases Nat.lt_or_ge k (lx j) with z | z
  · have := (h3 k z).2
    omega
  · rw [ch_out (by omega)]
    omega
theorem m_symbol_ok {fu N j : Nat} {T : Nat → List Nat} {σ : SM} (hj : j < 15) (hS : mSy N T σ) (hfu : 65536 < fu) (hroom : N < 20000 ∧ sta T N + 202 ≤ 60000) :
    ∃ s N' T' σ', m_symbol fu σ j = some (nI s, σ') ∧ mSy N' T' σ' ∧ s < N' ∧ T' s = lT j ∧ N ≤ N' ∧ N' ≤ N + 1 ∧ sta T' N' ≤ sta T N + lx j ∧ (∀ i, i < N → T' i = T i) ∧ mfr [3, 8] [1, 2, 4, 5, 6, 7] σ σ' := by
  obtain ⟨h1, h2, h3⟩ := lT_ok j hj
  have ckj : ∀ {α : Type} {k : Option α}, ckJ j k = k := fun {α k} => if_pos hj
  have key : ∀ (d k f : Nat) (σ1 : SM), k + d = lx j → d < f → mSy N T σ1 → (∀ i, i < k → σ1.2 2 i = nI (ch (lT j) i)) → ∃ s N' T' σ', m_symbol_2L fu f σ1 j (nI k) = some (nI s, σ') ∧ mSy N' T' σ' ∧ s < N' ∧ T' s = lT j ∧ N ≤ N' ∧ N' ≤ N + 1 ∧ sta T' N' ≤ sta T N + lx j ∧ (∀ i, i < N → T' i = T i) ∧ mfr [3, 8] [1, 2, 4, 5, 6, 7] σ1 σ' := by
    intro d
    induction d with
    | zero =>
      intro k f σ1 hk hf hS1 hc
      obtain ⟨f, rfl⟩ : ∃ z9, f = z9 + 1 := ⟨f - 1, by omega⟩
      obtain rfl : k = lx j := by omega
      show ∃ s N' T' σ', m_symbol_2 fu (m_symbol_2L fu f) σ1 j (nI (lx j)) = _ ∧ _
      unfold m_symbol_2
      rw [ckj, if_pos (nI_le (by omega) (by omega)), ckj]
      obtain ⟨s, N', T', σ', q1, q2, q3, q4, q5, q6, q7, q8, q9⟩ := m_symbolN_ok (t := lT j) hS1 (by omega) hfu (lT_ch hj) (fun i hi => hc i (by omega)) ⟨hroom.1, by omega⟩
      rw [h1] at q1 q7
      exact ⟨s, N', T', σ', by rw [q1, Option.bind_some], q2, q3, q4, q5, q6, q7, q8, q9.mo (by decide) (by decide)⟩
    | succ d ih =>
      intro k f σ1 hk hf hS1 hc
      obtain ⟨f, rfl⟩ : ∃ z9, f = z9 + 1 := ⟨f - 1, by omega⟩
      show ∃ s N' T' σ', m_symbol_2 fu (m_symbol_2L fu f) σ1 j (nI k) = _ ∧ _
      unfold m_symbol_2
      have h4 := h3 k (by omega)
      rw [ckj, if_neg (nI_ge (by omega) (by omega)), ckj, ckIn_n (by omega) (by omega), ckIn_n (by omega) (by decide), nx_eq, nI_clamp (by omega), h4.1, vp_nc (by omega), nx_eq, nI_1]
      obtain ⟨s, N', T', σ', q1, q2, q3, q4, q5, q6, q7, q8, q9⟩ := ih (k + 1) f (sa σ1 2 k (nI (ch (lT j) k))) (by omega) (by omega) (hS1.fr (mfr.sa (L := []) (A := [2]) (by decide)) (by decide) (by decide)) (fun i hi => by
        rcases Nat.lt_or_ge i k with z | z
        · rw [sa_ne (by omega)]
          exact hc i z
        · obtain rfl : i = k := by omega
          rw [sa_eq])
      exact ⟨s, N', T', σ', q1, q2, q3, q4, q5, q6, q7, q8, (mfr.sa (by decide)).tr q9⟩
  exact key (lx j) 0 fu σ (by omega) (by omega) hS (fun i hi => absurd hi (by omega))
/-- the table, with the three texts that are always there -/
def mSI (N : Nat) (T : Nat → List Nat) (σ : SM) : Prop := mSy N T σ ∧ (∃ i, i < N ∧ σ.1 9 = nI i ∧ T i = lT 10) ∧ (∃ i, i < N ∧ σ.1 10 = nI i ∧ T i = lT 11) ∧ ∃ i, i < N ∧ σ.1 11 = nI i ∧ T i = lT 12
theorem mSI.fr {N : Nat} {T : Nat → List Nat} {σ σ' : SM} {L A : List Nat} (h : mSI N T σ) (hf : mfr L A σ σ') (h1 : (8 ∉ L ∧ 3 ∉ L) ∧ 9 ∉ L ∧ 10 ∉ L ∧ 11 ∉ L) (h2 : 1 ∉ A ∧ 4 ∉ A ∧ 5 ∉ A ∧ 6 ∉ A ∧ 7 ∉ A) : mSI N T σ' := by
  obtain ⟨a1, a2, a3, a4⟩ := h
  refine ⟨a1.fr hf h1.1 h2, ?_, ?_, ?_⟩
  · rw [hf.1 9 h1.2.1]; exact a2
  · rw [hf.1 10 h1.2.2.1]; exact a3
  · rw [hf.1 11 h1.2.2.2]; exact a4
theorem mSI.ext {N N' : Nat} {T T' : Nat → List Nat} {σ σ' : SM} {A : List Nat} (h : mSI N T σ) (hS : mSy N' T' σ') (hN : N ≤ N') (hT : ∀ i, i < N → T' i = T i) (hf : mfr [3, 8] A σ σ') : mSI N' T' σ' := by
  obtain ⟨a1, ⟨i, b1, b2, b3⟩, ⟨j, c1, c2, c3⟩, ⟨k, d1, d2, d3⟩⟩ := h
  exact ⟨hS, ⟨i, by omega, (hf.1 9 (by decide)).trans b2, (hT i b1).trans b3⟩, ⟨j, by omega, (hf.1 10 (by decide)).trans c2, (hT j c1).trans c3⟩, ⟨k, by omega, (hf.1 11 (by decide)).trans d2, (hT k d1).trans d3⟩⟩
theorem m_clear_ok {fu : Nat} {σ : SM} (hfu : 65536 < fu) : ∃ N T σ', m_clear fu σ = some σ' ∧ mSI N T σ' ∧ N ≤ 3 ∧ sta T N ≤ 40 ∧ σ'.1 20 = 0 ∧ σ'.1 25 = 0 ∧ σ'.1 26 = 0 ∧ mfr [3, 8, 9, 10, 11, 20, 25, 26] [1, 2, 4, 5, 6, 7] σ σ' := by
  have key : ∀ (d k f : Nat) (σ1 : SM), k + d = 4096 → d < f → σ1.1 3 = 0 → σ1.1 8 = 0 → (∀ i, i < k → σ1.2 7 i = -1) → ∃ N T σ', m_clear_12L fu f σ1 (nI k) = some σ' ∧ mSI N T σ' ∧ N ≤ 3 ∧ sta T N ≤ 40 ∧ σ'.1 20 = 0 ∧ σ'.1 25 = 0 ∧ σ'.1 26 = 0 ∧ mfr [3, 8, 9, 10, 11, 20, 25, 26] [1, 2, 4, 5, 6, 7] σ1 σ' := by
    intro d
    induction d with
    | zero =>
      intro k f σ1 hk hf h3 h8 hh
      obtain ⟨f, rfl⟩ : ∃ z9, f = z9 + 1 := ⟨f - 1, by omega⟩
      obtain rfl : k = 4096 := by omega
      show ∃ N T σ', m_clear_12 fu (m_clear_12L fu f) σ1 (nI 4096) = _ ∧ _
      unfold m_clear_12
      rw [if_pos (by decide)]
      have hS0 : mSy 0 (fun _ => []) σ1 := ⟨by omega, by show 0 ≤ _; omega, h8, h3, fun i hi => absurd hi (by omega), fun h hh2 => hh h hh2, fun i j hi => absurd hi (by omega)⟩
      obtain ⟨s1, N1, T1, σ2, a1, a2, a3, a4, a5, a6, a7, a8, a9⟩ := m_symbol_ok (fu := fu) (j := 10) (by decide) hS0 hfu ⟨by omega, by show 0 + 202 ≤ _; omega⟩
      rw [a1, Option.bind_some, nx_eq]
      have f1 : mfr [9] [] σ2 (sf σ2 9 (nI s1)) := mfr.sf (by decide)
      have hS1 := a2.fr f1 (by decide) (by decide)
      have l10 : lx 10 = 6 := by decide
      have l11 : lx 11 = 8 := by decide
      have l12 : lx 12 = 16 := by decide
      have st0 : sta (fun _ => []) 0 = 0 := rfl
      obtain ⟨s2, N2, T2, σ3, b1, b2, b3, b4, b5, b6, b7, b8, b9⟩ := m_symbol_ok (fu := fu) (j := 11) (by decide) hS1 hfu ⟨by omega, by omega⟩
      rw [b1, Option.bind_some, nx_eq]
      have f2 : mfr [10] [] σ3 (sf σ3 10 (nI s2)) := mfr.sf (by decide)
      have hS2 := b2.fr f2 (by decide) (by decide)
      obtain ⟨s3, N3, T3, σ4, c1, c2, c3, c4, c5, c6, c7, c8, c9⟩ := m_symbol_ok (fu := fu) (j := 12) (by decide) hS2 hfu ⟨by omega, by omega⟩
      rw [c1, Option.bind_some, nx_eq, nx_eq, nx_eq, nx_eq]
      have f3 : mfr [11, 20, 25, 26] [] σ4 (sf (sf (sf (sf σ4 11 (nI s3)) 20 0) 25 0) 26 0) := (mfr.sf (by decide)).tr ((mfr.sf (by decide)).tr ((mfr.sf (by decide)).tr (mfr.sf (by decide))))
      refine ⟨N3, T3, _, rfl, ⟨c2.fr f3 (by decide) (by decide), ⟨s1, by omega, ?_, (c8 _ (by omega)).trans ((b8 _ a3).trans a4)⟩, ⟨s2, by omega, ?_, (c8 _ b3).trans b4⟩, ⟨s3, c3, ?_, c4⟩⟩, by omega, by omega, ?_, ?_, sf_eq, ?_⟩
      · rw [f3.1 9 (by decide), c9.1 9 (by decide), f2.1 9 (by decide), b9.1 9 (by decide), sf_eq]
      · rw [f3.1 10 (by decide), c9.1 10 (by decide), sf_eq]
      · rw [sf_ne (by decide), sf_ne (by decide), sf_ne (by decide), sf_eq]
      · rw [sf_ne (by decide), sf_ne (by decide), sf_eq]
      · rw [sf_ne (by decide), sf_eq]
      · exact (a9.mo (by decide) (by decide)).tr ((f1.mo (by decide) (by decide)).tr ((b9.mo (by decide) (by decide)).tr ((f2.mo (by decide) (by decide)).tr ((c9.mo (by decide) (by decide)).tr (f3.mo (by decide) (by decide))))))
    | succ d ih =>
      intro k f σ1 hk hf h3 h8 hh
      obtain ⟨f, rfl⟩ : ∃ z9, f = z9 + 1 := ⟨f - 1, by omega⟩
      show ∃ N T σ', m_clear_12 fu (m_clear_12L fu f) σ1 (nI k) = _ ∧ _
      unfold m_clear_12
      rw [if_neg (show ¬ (4096 : Int32) ≤ nI k from nI_ge (b := 4096) (by omega) (by omega)), ckIn_n (by omega) (by decide), nI_clamp (by omega), nx_eq, nx_eq, nI_1]
      obtain ⟨N, T, σ', q1, q2, q3, q4, q5, q6, q7, q8⟩ := ih (k + 1) f (sa σ1 7 k (-1)) (by omega) (by omega) h3 h8 (fun i hi => by
        rcases Nat.lt_or_ge i k with z | z
        · rw [sa_ne (by omega)]
          exact hh i z
        · obtain rfl : i = k := by omega
          rw [sa_eq])
      exact ⟨N, T, σ', q1, q2, q3, q4, q5, q6, q7, (mfr.sa (by decide)).tr q8⟩
  unfold m_clear m_clear_0
  rw [nx_eq, nx_eq]
  obtain ⟨N, T, σ', q1, q2, q3, q4, q5, q6, q7, q8⟩ := key 4096 0 fu (sf (sf σ 3 0) 8 0) (by omega) (by omega) (by rw [sf_ne (by decide), sf_eq]) sf_eq (fun i hi => absurd hi (by omega))
  exact ⟨N, T, σ', q1, q2, q3, q4, q5, q6, q7, (mfr.sf (by decide)).tr ((mfr.sf (by decide)).tr q8)⟩
/-- a text's characters out of bytes -/
def decS (F : Nat → Int32) (e : Nat) : Nat → Nat → FE (List Nat)
  | 0, _ => .ok []
  | f + 1, p => if e ≤ p then .ok [] else
    if U1 F p = 0 ∨ 240 ≤ U1 F p ∨ (128 ≤ U1 F p ∧ U1 F p < 192) then .error (6, p) else
    if U1 F p < 128 then eb (decS F e f (p + 1)) fun t => .ok (U1 F p :: t) else
    if U1 F p < 224 then
      if p + 1 < e ∧ U1 F (p + 1) / 64 = 2 then eb (decS F e f (p + 2)) fun t => .ok ((U1 F p % 32 * 64 + U1 F (p + 1) % 64) :: t) else .error (6, p)
    else if (p + 1 < e ∧ U1 F (p + 1) / 64 = 2) ∧ p + 2 < e ∧ U1 F (p + 2) / 64 = 2 then eb (decS F e f (p + 3)) fun t => .ok ((U1 F p % 16 * 4096 + U1 F (p + 1) % 64 * 64 + U1 F (p + 2) % 64) :: t) else .error (6, p)
theorem and192 : ∀ b, b < 256 → ((nI b &&& (192 : Int32)) = 128 ↔ b / 64 = 2) := by decide +kernel
theorem ch_app_l {u t : List Nat} {k : Nat} (h : k < u.length) : ch (u ++ t) k = ch u k := by
  unfold ch
  rw [List.getD_eq_getElem?_getD, List.getD_eq_getElem?_getD, List.getElem?_append_left h]
theorem ch_snoc_lt {u : List Nat} {b m : Nat} (h : ∀ k, ch u k < m) (hb : b < m) (h0 : 0 < m) (k : Nat) : ch (u ++ [b]) k < m := by
  rw [ch_snoc]
  split
  · exact hb
  · exact h k
theorem eb_snoc {E : FE (List Nat)} {u : List Nat} {b : Nat} : eb (eb E fun t => .ok (b :: t)) (fun t => .ok (u ++ t)) = eb E fun t => (.ok ((u ++ [b]) ++ t) : FE (List Nat)) := by
  cases E with
  | error e => rfl
  | ok a => simp [eb]
def mUQ (N S0 : Nat) (T : Nat → List Nat) (ent : Nat) (σ : SM) (t : List Nat) (σ' : SM) : Prop := ∃ s N' T', mSI N' T' σ' ∧ s < N' ∧ T' s = t ∧ N ≤ N' ∧ N' ≤ N + 1 ∧ sta T' N' ≤ S0 + t.length ∧ (∀ i, i < N → T' i = T i) ∧ σ'.2 22 ent = nI s ∧ ∀ j, j ≠ ent → σ'.2 22 j = σ.2 22 j
theorem m_wr_ok {σ : SM} {r p : Nat} : ((m_wrong σ (nI r) (nI p)).bind fun r1 => ckN .boolean r1.1 (some (r1.1, r1.2))) = some (0, mwr σ r p) := by
  rw [m_wrong_ok, Option.bind_some]
  show (if vp_nar .boolean (0 : Int32) = 0 then some ((0 : Int32), mwr σ r p) else none) = _
  rw [if_pos (by decide)]
theorem m_utf8_loop {F : Nat → Int32} {n fu e N S0 ent : Nat} {T : Nat → List Nat} (hn : n ≤ 20000) (he : e ≤ n) (hfu : 65536 < fu) (hent : ent < 65540) (hN : N ≤ 19000) (hS0 : sta T N = S0) (hS1 : S0 ≤ 30000) : ∀ (f g p : Nat) (u : List Nat) (σ : SM), e - p ≤ f → f < g → mF F n σ → mSI N T σ → u.length ≤ p → p ≤ e → (∀ k, ch u k < 65536) → (∀ k, k < u.length → σ.2 2 k = nI (ch u k)) →
    mRes [3, 8, 47, 48] [1, 2, 4, 5, 6, 7, 22] (eb (decS F e f p) fun t => .ok (u ++ t)) (mUQ N S0 T ent σ) σ (m_utf8_11L fu g σ (nI ent) (nI u.length) (nI p) (nI e)) := by
  have fin : ∀ (k11 : SM → Int32 → Int32 → Int32 → Int32 → Option (Int32 × SM)) (u : List Nat) (σ : SM), mF F n σ → mSI N T σ → u.length ≤ e → (∀ k, ch u k < 65536) → (∀ k, k < u.length → σ.2 2 k = nI (ch u k)) →
      mRes [3, 8, 47, 48] [1, 2, 4, 5, 6, 7, 22] (.ok u : FE (List Nat)) (mUQ N S0 T ent σ) σ (m_utf8_11 fu k11 σ (nI ent) (nI u.length) (nI e) (nI e)) := by
    intro k11 u σ hF hI hu hc hcut
    unfold m_utf8_11
    rw [if_pos (nI_le (by omega) (by omega))]
    obtain ⟨s, N', T', σ', q1, q2, q3, q4, q5, q6, q7, q8, q9⟩ := m_symbolN_ok (fu := fu) (t := u) hI.1 (by omega) hfu hc hcut ⟨by omega, by omega⟩
    rw [q1, Option.bind_some, ckIn_n hent (by decide), nI_clamp (by omega), nx_eq]
    have f2 : mfr [] [22] σ' (sa σ' 22 ent (nI s)) := mfr.sa (by decide)
    refine ⟨_, rfl, ⟨s, N', T', (hI.ext q2 q5 q8 q9).fr f2 (by decide) (by decide), q3, q4, q5, q6, by omega, q8, sa_eq, fun j hj => ?_⟩, (q9.mo (by decide) (by decide)).tr (f2.mo (by decide) (by decide))⟩
    rw [sa_ne hj, q9.2 22 (by decide)]
  intro f
  induction f with
  | zero =>
    intro g p u σ hd hg hF hI hu hp hc hcut
    obtain ⟨g, rfl⟩ : ∃ z9, g = z9 + 1 := ⟨g - 1, by omega⟩
    obtain rfl : p = e := by omega
    show mRes _ _ (.ok (u ++ []) : FE (List Nat)) _ σ (m_utf8_11 fu (m_utf8_11L fu g) σ (nI ent) (nI u.length) (nI p) (nI p))
    rw [List.append_nil]
    exact fin _ u σ hF hI (by omega) hc hcut
  | succ f ih =>
    intro g p u σ hd hg hF hI hu hp hc hcut
    obtain ⟨g, rfl⟩ : ∃ z9, g = z9 + 1 := ⟨g - 1, by omega⟩
    show mRes _ _ _ _ σ (m_utf8_11 fu (m_utf8_11L fu g) σ (nI ent) (nI u.length) (nI p) (nI e))
    unfold decS
    by_cases hpe : e ≤ p
    · obtain rfl : p = e := by omega
      rw [if_pos hpe]
      show mRes _ _ (.ok (u ++ []) : FE (List Nat)) _ σ _
      rw [List.append_nil]
      exact fin _ u σ hF hI (by omega) hc hcut
    rw [if_neg hpe]
    have hb := U1_lt F p
    unfold m_utf8_11
    rw [if_neg (nI_ge (by omega) (by omega)), m_u1_ok hF (by omega), Option.bind_some]
    have wr : mRes [3, 8, 47, 48] [1, 2, 4, 5, 6, 7, 22] (.error (6, p) : FE (List Nat)) (mUQ N S0 T ent σ) σ (m_utf8_55 fu σ (nI p)) := by
      unfold m_utf8_55
      rw [show (6 : Int32) = nI 6 from rfl, m_wr_ok]
      exact mRes.er (by decide) (by decide)
    -- the next round
    have go : ∀ (v d : Nat) (σ1 : SM), v < 65536 → 0 < d → p + d ≤ e → σ1 = sa σ 2 u.length (nI v) → mRes [3, 8, 47, 48] [1, 2, 4, 5, 6, 7, 22] (eb (eb (decS F e f (p + d)) fun t => .ok (v :: t)) fun t => .ok (u ++ t)) (mUQ N S0 T ent σ) σ (m_utf8_11L fu g σ1 (nI ent) (nI (u.length + 1)) (nI (p + d)) (nI e)) := by
      rintro v d σ1 hv h0 hd rfl
      rw [eb_snoc]
      have f1 : mfr [] [2] σ (sa σ 2 u.length (nI v)) := mfr.sa (by decide)
      have := ih g (p + d) (u ++ [v]) (sa σ 2 u.length (nI v)) (by omega) (by omega) (f1.mF hF (by decide) (by decide) (by decide)) (hI.fr f1 (by decide) (by decide)) (by rw [List.length_append]; show u.length + 1 ≤ _; omega) hd (ch_snoc_lt hc hv (by omega)) (fun k hk => by
        rw [List.length_append] at hk
        have hk : k < u.length + 1 := hk
        rcases Nat.lt_or_ge k u.length with z | z
        · rw [sa_ne (by omega), ch_app_l z]
          exact hcut k z
        · obtain rfl : k = u.length := by omega
          rw [sa_eq, ch_snoc, if_pos rfl])
      rw [List.length_append] at this
      refine (mRes.fr (f1.mo (by decide) (by decide)) this).mo (fun _ q => q) (fun _ q => q) ?_
      rintro t σ2 - ⟨s, N', T', z1, z2, z3, z4, z5, z6, z7, z8, z9⟩ -
      exact ⟨s, N', T', z1, z2, z3, z4, z5, z6, z7, z8, fun j hj => (z9 j hj).trans (by rw [sa_nk (by decide)])⟩
    have put : ∀ (v d : Nat), v < 65536 → p + (d + 1) ≤ e → mRes [3, 8, 47, 48] [1, 2, 4, 5, 6, 7, 22] (eb (eb (decS F e f (p + (d + 1))) fun t => .ok (v :: t)) fun t => .ok (u ++ t)) (mUQ N S0 T ent σ) σ (m_utf8_228 fu (m_utf8_11L fu g) σ (nI ent) (nI (u.length + 1)) (nI p) (nI e) (nI d) (nI v) (nI u.length)) := by
      intro v d hv hd
      unfold m_utf8_228
      rw [ckIn_n (by omega) (by decide), nx_eq, nx_eq, nI_clamp (by omega), nI_char hv, vp_nc hv, nI_1, nI_add]
      exact go v (d + 1) _ hv (by omega) hd rfl
    have wr2 : ∀ σ1 : SM, σ1 = σ → mRes [3, 8, 47, 48] [1, 2, 4, 5, 6, 7, 22] (.error (6, p) : FE (List Nat)) (mUQ N S0 T ent σ) σ (m_utf8_130 fu σ1 (nI p)) := by
      rintro _ rfl
      exact wr
    obtain ⟨h, hfu2⟩ : ∃ h, fu = h + 1 + 1 + 1 := ⟨fu - 3, by omega⟩
    have l1 : ∀ (m : Nat) (x4 x7 x8 x9 : Int32), m_utf8_94L fu (m_utf8_11L fu g) (m + 1) σ (nI ent) x4 (nI p) (nI e) x7 x8 x9 = m_utf8_94 fu (m_utf8_11L fu g) (m_utf8_94L fu (m_utf8_11L fu g) m) σ (nI ent) x4 (nI p) (nI e) x7 x8 x9 := fun _ _ _ _ _ => rfl
    by_cases hbad : U1 F p = 0 ∨ 240 ≤ U1 F p ∨ (128 ≤ U1 F p ∧ U1 F p < 192)
    · rw [if_pos hbad]
      show mRes _ _ (.error (6, p) : FE (List Nat)) _ _ _
      simp (disch := (first | omega | decide)) only [nI_eqL, nI_leL, nI_ltL, nI_Lle, nI_Llt, nI_eq, nI_leI, nI_ltI]
      rcases hbad with h | h | h
      · rw [if_pos h]; exact wr
      · rw [if_neg (by omega), if_pos h]; exact wr
      · rw [if_neg (by omega), if_neg (by omega), if_neg (by omega), if_neg (by omega)]; exact wr
    · rw [if_neg hbad]
      have e64 : m_utf8_64 fu (m_utf8_11L fu g) σ (nI ent) (nI u.length) (nI p) (nI e) (nI (U1 F p)) = (if nI (U1 F p) = 0 then m_utf8_55 fu σ (nI p) else if (240 : Int32) ≤ nI (U1 F p) then m_utf8_55 fu σ (nI p) else if nI (U1 F p) < (128 : Int32) then m_utf8_64 fu (m_utf8_11L fu g) σ (nI ent) (nI u.length) (nI p) (nI e) (nI (U1 F p)) else if (191 : Int32) < nI (U1 F p) then m_utf8_64 fu (m_utf8_11L fu g) σ (nI ent) (nI u.length) (nI p) (nI e) (nI (U1 F p)) else m_utf8_55 fu σ (nI p)) := by
        simp (disch := (first | omega | decide)) only [nI_eqL, nI_leL, nI_ltL, nI_Lle, nI_Llt, nI_eq, nI_leI, nI_ltI]
        rw [if_neg (by omega), if_neg (by omega)]
        split
        · rfl
        · rw [if_pos (by omega)]
      rw [← e64]
      unfold m_utf8_64 m_utf8_89
      rw [hfu2] at l1 ⊢
      by_cases h1 : U1 F p < 128
      · rw [if_pos h1, if_neg (show ¬ (128 : Int32) ≤ nI (U1 F p) from nI_ge (b := 128) h1 (by omega)), l1]
        unfold m_utf8_94
        rw [if_pos (by decide), nx_eq, if_pos rfl, nI_1, ← hfu2]
        exact put _ 0 (by omega) (by omega)
      rw [if_neg h1, if_pos (show (128 : Int32) ≤ nI (U1 F p) from nI_le (a := 128) (by omega) (by omega))]
      have hb1 := U1_lt F (p + 1)
      have hb2 := U1_lt F (p + 2)
      by_cases h2 : U1 F p < 224
      · rw [if_pos h2, if_neg (show ¬ (224 : Int32) ≤ nI (U1 F p) from nI_ge (b := 224) h2 (by omega)), l1]
        unfold m_utf8_94
        rw [if_neg (show ¬ (1 : Int32) < 1 by decide), nI_1]
        by_cases h3 : p + 1 < e
        · rw [if_neg (show ¬ nI e ≤ nI (p + 1) from nI_ge (by omega) (by omega)), m_u1_ok hF (by omega), Option.bind_some]
          by_cases h4 : U1 F (p + 1) / 64 = 2
          · rw [if_pos (show p + 1 < e ∧ U1 F (p + 1) / 64 = 2 from ⟨h3, h4⟩), if_pos ((and192 _ hb1).mpr h4), nx_eq, l1]
            unfold m_utf8_94
            rw [if_pos (show (1 : Int32) < 1 + 1 by decide), nx_eq, if_neg (show ¬ (1 : Int32) = 0 by decide), if_pos (rfl : (1 : Int32) = 1), nI_1, nI_1, m_u1_ok hF (by omega), Option.bind_some, pk_andN (by omega) 5 (by decide), pk_andN (by omega) 6 (by decide), pk_shlN _ 6 (by decide) (by omega), nI_or (k := 6) (by omega) (by omega), ← hfu2]
            exact put _ 1 (by omega) (by omega)
          · rw [if_neg (show ¬ (p + 1 < e ∧ U1 F (p + 1) / 64 = 2) from fun q => h4 q.2), if_neg (fun q => h4 ((and192 _ hb1).mp q)), ← hfu2]
            exact wr2 _ rfl
        · rw [if_neg (show ¬ (p + 1 < e ∧ U1 F (p + 1) / 64 = 2) from fun q => h3 q.1), if_pos (show nI e ≤ nI (p + 1) from nI_le (by omega) (by omega)), ← hfu2]
          exact wr2 _ rfl
      · rw [if_neg h2, if_pos (show (224 : Int32) ≤ nI (U1 F p) from nI_le (a := 224) (by omega) (by omega)), l1]
        unfold m_utf8_94
        rw [if_neg (show ¬ (2 : Int32) < 1 by decide), nI_1]
        by_cases h3 : p + 1 < e
        · rw [if_neg (show ¬ nI e ≤ nI (p + 1) from nI_ge (by omega) (by omega)), m_u1_ok hF (by omega), Option.bind_some]
          by_cases h4 : U1 F (p + 1) / 64 = 2
          · rw [if_pos ((and192 _ hb1).mpr h4), nx_eq, l1]
            unfold m_utf8_94
            rw [if_neg (show ¬ (2 : Int32) < 1 + 1 by decide), show nI p + ((1 : Int32) + 1) = nI (p + 2) from nI_add p 2]
            by_cases h5 : p + 2 < e
            · rw [if_neg (show ¬ nI e ≤ nI (p + 2) from nI_ge (by omega) (by omega)), m_u1_ok hF (by omega), Option.bind_some]
              by_cases h6 : U1 F (p + 2) / 64 = 2
              · rw [if_pos (show (p + 1 < e ∧ U1 F (p + 1) / 64 = 2) ∧ p + 2 < e ∧ U1 F (p + 2) / 64 = 2 from ⟨⟨h3, h4⟩, h5, h6⟩), if_pos ((and192 _ hb2).mpr h6), nx_eq, l1]
                unfold m_utf8_94
                rw [if_pos (show (2 : Int32) < 1 + 1 + 1 by decide), nx_eq, if_neg (show ¬ (2 : Int32) = 0 by decide), if_neg (show ¬ (2 : Int32) = 1 by decide), nI_1, nI_1, m_u1_ok hF (by omega), Option.bind_some, nI_2, m_u1_ok hF (by omega), Option.bind_some, pk_andN (by omega) 4 (by decide), pk_andN (by omega) 6 (by decide), pk_andN (by omega) 6 (by decide), pk_shlN _ 12 (by decide) (by omega), pk_shlN _ 6 (by decide) (by omega), nI_or (k := 12) (by omega) (by omega), show U1 F p % 2 ^ 4 * 2 ^ 12 + U1 F (p + 1) % 2 ^ 6 * 2 ^ 6 = (U1 F p % 16 * 64 + U1 F (p + 1) % 64) * 2 ^ 6 by omega, nI_or (k := 6) (by omega) (by omega), ← hfu2, show (U1 F p % 16 * 64 + U1 F (p + 1) % 64) * 2 ^ 6 + U1 F (p + 2) % 2 ^ 6 = U1 F p % 16 * 4096 + U1 F (p + 1) % 64 * 64 + U1 F (p + 2) % 64 by omega]
                exact put _ 2 (by omega) (by omega)
              · rw [if_neg (show ¬ ((p + 1 < e ∧ U1 F (p + 1) / 64 = 2) ∧ p + 2 < e ∧ U1 F (p + 2) / 64 = 2) from fun q => h6 q.2.2), if_neg (fun q => h6 ((and192 _ hb2).mp q)), ← hfu2]
                exact wr2 _ rfl
            · rw [if_neg (show ¬ ((p + 1 < e ∧ U1 F (p + 1) / 64 = 2) ∧ p + 2 < e ∧ U1 F (p + 2) / 64 = 2) from fun q => h5 q.2.1), if_pos (show nI e ≤ nI (p + 2) from nI_le (by omega) (by omega)), ← hfu2]
              exact wr2 _ rfl
          · rw [if_neg (show ¬ ((p + 1 < e ∧ U1 F (p + 1) / 64 = 2) ∧ p + 2 < e ∧ U1 F (p + 2) / 64 = 2) from fun q => h4 q.1.2), if_neg (fun q => h4 ((and192 _ hb1).mp q)), ← hfu2]
            exact wr2 _ rfl
        · rw [if_neg (show ¬ ((p + 1 < e ∧ U1 F (p + 1) / 64 = 2) ∧ p + 2 < e ∧ U1 F (p + 2) / 64 = 2) from fun q => h3 q.1.1), if_pos (show nI e ≤ nI (p + 1) from nI_le (by omega) (by omega)), ← hfu2]
          exact wr2 _ rfl
end MPool
