/-! the twin's texts: each once, numbered -/
section Sym
set_option maxRecDepth 100000
def sta (T : Nat → List Nat) : Nat → Nat
  | 0 => 0
  | i + 1 => sta T i + (T i).length
def hI (t : List Nat) : Nat → Int32
  | 0 => 7
  | k + 1 => 31 * hI t k + nI (ch t k)
def hsh (t : List Nat) : Nat := ((hI t t.length ^^^ (((hI t t.length).toUInt32 >>> ((12 : Int32).toUInt32 &&& Int32.toUInt32 31)).toInt32)) &&& (4095 : Int32)).toNatClampNeg
theorem hsh_eq (t : List Nat) : ((hI t t.length ^^^ (((hI t t.length).toUInt32 >>> ((12 : Int32).toUInt32 &&& Int32.toUInt32 31)).toInt32)) &&& (4095 : Int32)) = nI (hsh t) ∧ hsh t < 4096 := by
  unfold hsh
  obtain ⟨j, hj, e⟩ := pk_andE (hI t t.length ^^^ (((hI t t.length).toUInt32 >>> ((12 : Int32).toUInt32 &&& Int32.toUInt32 31)).toInt32)) (m := 4095) 12 (by decide)
  rw [e, nI_clamp (by omega)]
  exact ⟨rfl, by omega⟩
def prv (T : Nat → List Nat) (h : Nat) : Nat → Option Nat
  | 0 => none
  | m + 1 => if hsh (T m) = h then some m else prv T h m
theorem sta_mono (T : Nat → List Nat) : ∀ (d i : Nat), sta T i ≤ sta T (i + d) := by
  intro d
  induction d with
  | zero => intro i; exact Nat.le_refl _
  | succ d ih =>
    intro i
    have := ih i
    show sta T i ≤ sta T (i + d) + _
    omega
theorem sta_in {T : Nat → List Nat} {i N : Nat} (h : i < N) : sta T i + (T i).length ≤ sta T N := by
  have := sta_mono T (N - (i + 1)) (i + 1)
  rw [show i + 1 + (N - (i + 1)) = N by omega] at this
  exact this
theorem sta_agr {T T' : Nat → List Nat} : ∀ {N : Nat}, (∀ i, i < N → T' i = T i) → sta T' N = sta T N := by
  intro N
  induction N with
  | zero => intro _; rfl
  | succ N ih =>
    intro h
    show sta T' N + _ = sta T N + _
    rw [ih (fun i hi => h i (by omega)), h N (by omega)]
theorem prv_agr {T T' : Nat → List Nat} {h : Nat} : ∀ {N : Nat}, (∀ i, i < N → T' i = T i) → prv T' h N = prv T h N := by
  intro N
  induction N with
  | zero => intro _; rfl
  | succ N ih =>
    intro q
    show (if hsh (T' N) = h then some N else prv T' h N) = if hsh (T N) = h then some N else prv T h N
    rw [ih (fun i hi => q i (by omega)), q N (by omega)]
/-- the table of texts: N of them, the i-th T i -/
def mSy (N : Nat) (T : Nat → List Nat) (σ : SM) : Prop :=
  N ≤ 20000 ∧ sta T N ≤ 60000 ∧ σ.1 8 = nI N ∧ σ.1 3 = nI (sta T N) ∧
  (∀ i, i < N → (∀ k, ch (T i) k < 65536) ∧ σ.2 4 i = nI (sta T i) ∧ σ.2 5 i = nI (T i).length ∧ (∀ k, k < (T i).length → σ.2 1 (sta T i + k) = nI (ch (T i) k)) ∧ σ.2 6 i = oI (prv T (hsh (T i)) i)) ∧
  (∀ h, h < 4096 → σ.2 7 h = oI (prv T h N)) ∧ ∀ i j, i < N → j < N → T i = T j → i = j
theorem mSy.mW {N : Nat} {T : Nat → List Nat} {σ : SM} (h : mSy N T σ) {i : Nat} (hi : i < N) : mW (T i) (nI i) σ := by
  obtain ⟨h1, h2, h3, h4, h5, h6, h7⟩ := h
  obtain ⟨a1, a2, a3, a4, a5⟩ := h5 i hi
  have := sta_in (T := T) hi
  refine ⟨by omega, a1, ?_, fun k hk => ?_⟩
  · unfold m_length m_length_0
    rw [ckIn_n (by omega) (by decide), nI_clamp (by omega), a3]
  · unfold m_at m_at_0
    rw [ckIn_n (by omega) (by decide), nI_clamp (by omega), a2, nI_add, ckIn_n (by omega) (by decide), nI_clamp (by omega), a4 k hk, ckN_c (a1 k)]
theorem mSy.fr {N : Nat} {T : Nat → List Nat} {σ σ' : SM} {L A : List Nat} (h : mSy N T σ) (hf : mfr L A σ σ') (h1 : 8 ∉ L ∧ 3 ∉ L) (h2 : 1 ∉ A ∧ 4 ∉ A ∧ 5 ∉ A ∧ 6 ∉ A ∧ 7 ∉ A) : mSy N T σ' := by
  obtain ⟨a1, a2, a3, a4, a5, a6, a7⟩ := h
  refine ⟨a1, a2, (hf.1 8 h1.1).trans a3, (hf.1 3 h1.2).trans a4, fun i hi => ?_, fun q hq => ?_, a7⟩
  · rw [hf.2 4 h2.2.1, hf.2 5 h2.2.2.1, hf.2 1 h2.1, hf.2 6 h2.2.2.2.1]
    exact a5 i hi
  · rw [hf.2 7 h2.2.2.2.2]
    exact a6 q hq
theorem m_sym_hash {fu : Nat} {σ : SM} {t : List Nat} (hlen : t.length ≤ 60000) (hc : ∀ k, k < t.length → σ.2 2 k = nI (ch t k)) : ∀ (d k f : Nat), k + d = t.length → d < f → m_symbolN_5L fu f σ (nI t.length) (hI t k) (nI k) = m_symbolN_46L fu fu σ (nI t.length) (nI (hsh t)) (σ.2 7 (hsh t)) := by
  intro d
  induction d with
  | zero =>
    intro k f hk hf
    obtain ⟨f, rfl⟩ : ∃ z9, f = z9 + 1 := ⟨f - 1, by omega⟩
    obtain rfl : k = t.length := by omega
    show m_symbolN_5 fu (m_symbolN_5L fu f) σ (nI t.length) (hI t t.length) (nI t.length) = _
    unfold m_symbolN_5
    obtain ⟨e1, e2⟩ := hsh_eq t
    rw [if_pos (nI_le (by omega) (by omega)), nx_eq, e1, ckIn_n (by omega) (by decide), nx_eq, nI_clamp (by omega)]
  | succ d ih =>
    intro k f hk hf
    obtain ⟨f, rfl⟩ : ∃ z9, f = z9 + 1 := ⟨f - 1, by omega⟩
    show m_symbolN_5 fu (m_symbolN_5L fu f) σ (nI t.length) (hI t k) (nI k) = _
    unfold m_symbolN_5
    rw [if_neg (nI_ge (by omega) (by omega)), ckIn_n (by omega) (by decide), nI_clamp (by omega), hc k (by omega), nx_eq, nx_eq, nI_1]
    exact ih (k + 1) f (by omega) (by omega)
theorem m_sym_same {fu N : Nat} {T : Nat → List Nat} {σ : SM} {t : List Nat} {s : Nat} {x2 : Int32} {k46 : SM → Int32 → Int32 → Int32 → Option (Int32 × SM)} (hS : mSy N T σ) (hs : s < N) (hlen : t.length ≤ 60000) (hch : ∀ k, ch t k < 65536) (hc : ∀ k, k < t.length → σ.2 2 k = nI (ch t k)) : ∀ (d k f : Nat), k + d = t.length → d < f → m_symbolN_70L fu k46 f σ (nI t.length) x2 (nI s) (bi ((T s).length = t.length ∧ ∀ j, 0 ≤ j → j < k → ch (T s) j = ch t j)) (nI k) = m_symbolN_118 fu k46 σ (nI t.length) x2 (nI s) (bi (T s = t)) := by
  obtain ⟨h1, h2, h3, h4, h5, h6, h7⟩ := hS
  obtain ⟨a1, a2, a3, a4, a5⟩ := h5 s hs
  have hin := sta_in (T := T) hs
  intro d
  induction d with
  | zero =>
    intro k f hk hf
    obtain ⟨f, rfl⟩ : ∃ z9, f = z9 + 1 := ⟨f - 1, by omega⟩
    obtain rfl : k = t.length := by omega
    show m_symbolN_70 fu k46 (m_symbolN_70L fu k46 f) σ (nI t.length) x2 (nI s) _ (nI t.length) = _
    unfold m_symbolN_70
    rw [if_pos (nI_le (by omega) (by omega))]
    congr 1
    refine bi_iff ⟨fun q => txt_ext q.1 (fun k hk => q.2 k (by omega) (by omega)), fun q => by rw [q]; exact ⟨rfl, fun _ _ _ => rfl⟩⟩
  | succ d ih =>
    intro k f hk hf
    obtain ⟨f, rfl⟩ : ∃ z9, f = z9 + 1 := ⟨f - 1, by omega⟩
    show m_symbolN_70 fu k46 (m_symbolN_70L fu k46 f) σ (nI t.length) x2 (nI s) _ (nI k) = _
    unfold m_symbolN_70
    rw [if_neg (nI_ge (by omega) (by omega))]
    by_cases hq : (T s).length = t.length ∧ ∀ j, 0 ≤ j → j < k → ch (T s) j = ch t j
    · rw [if_neg (by rw [bi_t hq]; decide), ckIn_n (by omega) (by decide), nI_clamp (by omega), a2, nI_add, ckIn_n (by omega) (by decide), ckIn_n (by omega) (by decide), nI_clamp (by omega), nI_clamp (by omega), hc k (by omega), a4 k (by omega)]
      have step : ∀ b : Int32, b = bi ((T s).length = t.length ∧ ∀ j, 0 ≤ j → j < k + 1 → ch (T s) j = ch t j) → m_symbolN_110 fu (m_symbolN_70L fu k46 f) σ (nI t.length) x2 (nI s) (nI k) b = m_symbolN_118 fu k46 σ (nI t.length) x2 (nI s) (bi (T s = t)) := by
        rintro b rfl
        unfold m_symbolN_110
        rw [nx_eq, nI_1]
        exact ih (k + 1) f (by omega) (by omega)
      have hck := hch k
      have hck2 := a1 k
      by_cases he : ch (T s) k = ch t k
      · rw [if_pos (by rw [he])]
        exact step 1 (bi_t ⟨hq.1, (all_snoc (by omega)).mpr ⟨hq.2, he⟩⟩).symm
      · rw [if_neg (fun q => he ((nI_eq (by omega) (by omega)).mp q))]
        exact step 0 (bi_f (fun q => he (q.2 k (by omega) (by omega)))).symm
    · rw [if_pos (bi_f hq)]
      congr 1
      refine bi_iff ⟨fun q => absurd q hq, fun q => absurd ⟨by rw [q], fun _ _ _ => by rw [q]⟩ hq⟩
theorem m_sym_find {fu N : Nat} {T : Nat → List Nat} {σ : SM} {t : List Nat} (hS : mSy N T σ) (hlen : t.length ≤ 60000) (hfu : 65536 < fu) (hch : ∀ k, ch t k < 65536) (hc : ∀ k, k < t.length → σ.2 2 k = nI (ch t k)) : ∀ (m f : Nat), m ≤ N → m < f →
    (∀ i, i < m → T i = t → m_symbolN_46L fu f σ (nI t.length) (nI (hsh t)) (oI (prv T (hsh t) m)) = some (nI i, σ)) ∧ ((∀ i, i < m → T i ≠ t) → m_symbolN_46L fu f σ (nI t.length) (nI (hsh t)) (oI (prv T (hsh t) m)) = m_symbolN_137L fu fu σ (nI t.length) (nI (hsh t)) 0) := by
  intro m
  induction m with
  | zero =>
    intro f hm hf
    obtain ⟨f, rfl⟩ : ∃ z9, f = z9 + 1 := ⟨f - 1, by omega⟩
    refine ⟨fun i hi => absurd hi (by omega), fun _ => ?_⟩
    show m_symbolN_46 fu (m_symbolN_46L fu f) σ (nI t.length) (nI (hsh t)) (-1) = _
    unfold m_symbolN_46
    rw [if_pos (by decide)]
  | succ m ih =>
    intro f hm hf
    by_cases hh : hsh (T m) = hsh t
    · have e : prv T (hsh t) (m + 1) = some m := if_pos hh
      rw [e]
      obtain ⟨f, rfl⟩ : ∃ z9, f = z9 + 1 := ⟨f - 1, by omega⟩
      have h5 := hS.2.2.2.2.1 m (by omega)
      have hN := hS.1
      have step : m_symbolN_46L fu (f + 1) σ (nI t.length) (nI (hsh t)) (oI (some m)) = m_symbolN_118 fu (m_symbolN_46L fu f) σ (nI t.length) (nI (hsh t)) (nI m) (bi (T m = t)) := by
        show m_symbolN_46 fu (m_symbolN_46L fu f) σ (nI t.length) (nI (hsh t)) (nI m) = _
        unfold m_symbolN_46
        rw [if_neg (nI_pos (by omega)), ckIn_n (by omega) (by decide), nI_clamp (by omega), h5.2.2.1]
        have hin := sta_in (T := T) (i := m) (N := N) (by omega)
        have hs2 := hS.2.1
        have hs := m_sym_same (fu := fu) (x2 := nI (hsh t)) (k46 := m_symbolN_46L fu f) hS (s := m) (by omega) hlen hch hc t.length 0 fu (by omega) (by omega)
        unfold m_symbolN_65
        by_cases hl : (T m).length = t.length
        · rw [if_pos (by rw [hl]), ← hs, bi_t ⟨hl, fun j _ hj => absurd hj (by omega)⟩]
          rfl
        · rw [if_neg (fun q => hl ((nI_eq (by omega) (by omega)).mp q)), ← hs, bi_f (fun q => hl q.1)]
          rfl
      rw [step]
      unfold m_symbolN_118
      by_cases he : T m = t
      · rw [bi_t he, if_neg (by decide)]
        refine ⟨fun i hi q => ?_, fun q => absurd he (q m (by omega))⟩
        rw [hS.2.2.2.2.2.2 i m (by omega) (by omega) (q.trans he.symm)]
      · rw [bi_f he, if_pos rfl, ckIn_n (by omega) (by decide), nx_eq, nI_clamp (by omega), h5.2.2.2.2, hh]
        have := ih f (by omega) (by omega)
        refine ⟨fun i hi q => this.1 i ?_ q, fun q => this.2 (fun i hi => q i (by omega))⟩
        rcases Nat.lt_or_ge i m with z | z
        · exact z
        · obtain rfl : i = m := by omega
          exact absurd q he
    · have e : prv T (hsh t) (m + 1) = prv T (hsh t) m := if_neg hh
      rw [e]
      have := ih f (by omega) (by omega)
      refine ⟨fun i hi q => this.1 i ?_ q, fun q => this.2 (fun i hi => q i (by omega))⟩
      rcases Nat.lt_or_ge i m with z | z
      · exact z
      · obtain rfl : i = m := by omega
        exact absurd (by rw [q]) hh
def uT (T : Nat → List Nat) (N : Nat) (t : List Nat) : Nat → List Nat := fun i => if i = N then t else T i
theorem vp_nc {n : Nat} (h : n < 65536) : vp_nar .char (nI n) = nI n := by
  have := (pk_charN h).1
  exact Value.int.inj this
theorem m_sym_add {fu N : Nat} {T : Nat → List Nat} {t : List Nat} (hlen : t.length ≤ 60000) (hch : ∀ k, ch t k < 65536) (hroom : N < 20000 ∧ sta T N + t.length ≤ 60000) (hnew : ∀ i, i < N → T i ≠ t) : ∀ (d k f : Nat) (σ : SM), k + d = t.length → d < f → mSy N T σ → (∀ k, k < t.length → σ.2 2 k = nI (ch t k)) → (∀ j, j < k → σ.2 1 (sta T N + j) = nI (ch t j)) →
    ∃ σ', m_symbolN_137L fu f σ (nI t.length) (nI (hsh t)) (nI k) = some (nI N, σ') ∧ mSy (N + 1) (uT T N t) σ' ∧ mfr [3, 8] [1, 4, 5, 6, 7] σ σ' := by
  intro d
  induction d with
  | zero =>
    intro k f σ hk hf hS hc hd
    obtain ⟨f, rfl⟩ : ∃ z9, f = z9 + 1 := ⟨f - 1, by omega⟩
    obtain rfl : k = t.length := by omega
    obtain ⟨h1, h2, h3, h4, h5, h6, h7⟩ := hS
    obtain ⟨-, e2⟩ := hsh_eq t
    have hag : ∀ i, i < N → uT T N t i = T i := fun i hi => if_neg (by omega)
    have hst : sta (uT T N t) N = sta T N := sta_agr hag
    have hNt : uT T N t N = t := if_pos rfl
    show ∃ σ', m_symbolN_137 fu (m_symbolN_137L fu f) σ (nI t.length) (nI (hsh t)) (nI t.length) = _ ∧ _
    unfold m_symbolN_137
    rw [if_pos (nI_le (by omega) (by omega))]
    simp only [nx_eq, h3]
    simp only [ckIn_n (show N < 24000 by omega) (by decide), ckIn_n e2 (by decide), nI_clamp (show N < 2 ^ 31 by omega), nI_clamp (show hsh t < 2 ^ 31 by omega)]
    refine ⟨_, rfl, ?_, ?_⟩
    · generalize hσ5 : sa (sf σ 8 (nI N + 1)) 4 N ((sf σ 8 (nI N + 1)).1 3) = σ5
      have f5 : mfr [8] [4] σ σ5 := by rw [← hσ5]; exact (mfr.sf (by decide)).tr (mfr.sa (by decide))
      have v5 : σ5.2 4 N = nI (sta T N) := by rw [← hσ5, sa_eq, sf_ne (by decide), h4]
      have o5 : ∀ j, j ≠ N → σ5.2 4 j = σ.2 4 j := fun j hj => by rw [← hσ5, sa_ne hj]; rfl
      have w5 : σ5.1 8 = nI (N + 1) := by rw [← hσ5, sa_1, sf_eq, nI_1]
      generalize hσ7 : sa σ5 5 N (nI t.length) = σ7
      have f7 : mfr [] [5] σ5 σ7 := by rw [← hσ7]; exact mfr.sa (by decide)
      have v7 : σ7.2 5 N = nI t.length := by rw [← hσ7, sa_eq]
      have o7 : ∀ j, j ≠ N → σ7.2 5 j = σ5.2 5 j := fun j hj => by rw [← hσ7, sa_ne hj]
      generalize hσ10 : sa σ7 6 N (σ7.2 7 (hsh t)) = σ10
      have f10 : mfr [] [6] σ7 σ10 := by rw [← hσ10]; exact mfr.sa (by decide)
      have e7 : σ7.2 7 = σ.2 7 := (f7.2 7 (by decide)).trans (f5.2 7 (by decide))
      have v10 : σ10.2 6 N = oI (prv T (hsh t) N) := by rw [← hσ10, sa_eq, e7, h6 _ e2]
      have o10 : ∀ j, j ≠ N → σ10.2 6 j = σ7.2 6 j := fun j hj => by rw [← hσ10, sa_ne hj]
      generalize hσ12 : sa σ10 7 (hsh t) (nI N) = σ12
      have f12 : mfr [] [7] σ10 σ12 := by rw [← hσ12]; exact mfr.sa (by decide)
      have v12 : σ12.2 7 (hsh t) = nI N := by rw [← hσ12, sa_eq]
      have o12 : ∀ j, j ≠ hsh t → σ12.2 7 j = σ.2 7 j := fun j hj => by rw [← hσ12, sa_ne hj, f10.2 7 (by decide), e7]
      have z4 : σ12.2 4 = σ5.2 4 := (f12.2 4 (by decide)).trans ((f10.2 4 (by decide)).trans (f7.2 4 (by decide)))
      have z5 : σ12.2 5 = σ7.2 5 := (f12.2 5 (by decide)).trans (f10.2 5 (by decide))
      have z6 : σ12.2 6 = σ10.2 6 := f12.2 6 (by decide)
      have z1 : σ12.2 1 = σ.2 1 := (f12.2 1 (by decide)).trans ((f10.2 1 (by decide)).trans ((f7.2 1 (by decide)).trans (f5.2 1 (by decide))))
      have n3 : σ12.1 3 = nI (sta T N) := ((f12.1 3 (by decide)).trans ((f10.1 3 (by decide)).trans ((f7.1 3 (by decide)).trans (f5.1 3 (by decide))))).trans h4
      have n8 : σ12.1 8 = nI (N + 1) := ((f12.1 8 (by decide)).trans ((f10.1 8 (by decide)).trans (f7.1 8 (by decide)))).trans w5
      refine ⟨by omega, ?_, ?_, ?_, fun i hi => ?_, fun q hq => ?_, fun i j hi hj he => ?_⟩
      · show sta _ N + _ ≤ _
        rw [hst, hNt]
        omega
      · rw [sf_ne (by decide), n8]
      · rw [sf_eq, n3, nI_add]
        show _ = nI (sta (uT T N t) N + (uT T N t N).length)
        rw [hst, hNt]
      · rw [sf_2, z4, z5, z6, z1]
        rcases Nat.lt_or_ge i N with z | z
        · obtain ⟨a1, a2, a3, a4, a5⟩ := h5 i z
          have hst2 : sta (uT T N t) i = sta T i := sta_agr (fun j hj => hag j (by omega))
          have hpr : prv (uT T N t) (hsh (T i)) i = prv T (hsh (T i)) i := prv_agr (fun j hj => hag j (by omega))
          rw [hag i z, hst2, hpr]
          refine ⟨a1, (o5 i (by omega)).trans a2, (o7 i (by omega)).trans (by rw [f5.2 5 (by decide)]; exact a3), a4, (o10 i (by omega)).trans (by rw [f7.2 6 (by decide), f5.2 6 (by decide)]; exact a5)⟩
        · obtain rfl : i = N := by omega
          rw [hNt, hst, prv_agr hag]
          exact ⟨hch, v5, v7, hd, v10⟩
      · rw [sf_2]
        show _ = oI (if hsh (uT T N t N) = q then some N else prv (uT T N t) q N)
        rw [hNt, prv_agr hag]
        by_cases hq2 : hsh t = q
        · rw [if_pos hq2, ← hq2, v12]
          rfl
        · rw [if_neg hq2, o12 q (fun z => hq2 z.symm), h6 q hq]
      · rcases Nat.lt_or_ge i N with z | z
        · rcases Nat.lt_or_ge j N with z2 | z2
          · rw [hag i z, hag j z2] at he
            exact h7 i j z z2 he
          · obtain rfl : j = N := by omega
            rw [hag i z, hNt] at he
            exact absurd he (hnew i z)
        · obtain rfl : i = N := by omega
          rcases Nat.lt_or_ge j i with z2 | z2
          · rw [hag j z2, hNt] at he
            exact absurd he.symm (hnew j z2)
          · omega
    · exact (mfr.sf (by decide)).tr ((mfr.sa (by decide)).tr ((mfr.sa (by decide)).tr ((mfr.sa (by decide)).tr ((mfr.sa (by decide)).tr (mfr.sf (by decide))))))
  | succ d ih =>
    intro k f σ hk hf hS hc hd
    obtain ⟨f, rfl⟩ : ∃ z9, f = z9 + 1 := ⟨f - 1, by omega⟩
    show ∃ σ', m_symbolN_137 fu (m_symbolN_137L fu f) σ (nI t.length) (nI (hsh t)) (nI k) = _ ∧ _
    unfold m_symbolN_137
    have hck := hch k
    rw [if_neg (nI_ge (by omega) (by omega)), ckIn_n (by omega) (by decide), hS.2.2.2.1, nI_add, ckIn_n (by omega) (by decide), nx_eq, nI_clamp (by omega), nI_clamp (by omega), hc k (by omega), vp_nc hck, nx_eq, nI_1]
    have hS2 : mSy N T (sa σ 1 (sta T N + k) (nI (ch t k))) := by
      obtain ⟨h1, h2, h3, h4, h5, h6, h7⟩ := hS
      refine ⟨h1, h2, h3, h4, fun i hi => ?_, fun q hq => by rw [sa_nk (by decide)]; exact h6 q hq, h7⟩
      obtain ⟨a1, a2, a3, a4, a5⟩ := h5 i hi
      rw [sa_nk (q := 4) (by decide), sa_nk (q := 5) (by decide), sa_nk (q := 6) (by decide)]
      refine ⟨a1, a2, a3, fun j hj => ?_, a5⟩
      have := sta_in (T := T) hi
      rw [sa_ne (by omega)]
      exact a4 j hj
    have hd2 : ∀ j, j < k + 1 → (sa σ 1 (sta T N + k) (nI (ch t k))).2 1 (sta T N + j) = nI (ch t j) := by
      intro j hj
      rcases Nat.lt_or_ge j k with z | z
      · rw [sa_ne (by omega)]
        exact hd j z
      · obtain rfl : j = k := by omega
        rw [sa_eq]
    obtain ⟨σ', q1, q2, q3⟩ := ih (k + 1) f (sa σ 1 (sta T N + k) (nI (ch t k))) (by omega) (by omega) hS2 (fun j hj => by rw [sa_nk (by decide)]; exact hc j hj) hd2
    exact ⟨σ', q1, q2, (mfr.sa (by decide)).tr q3⟩
/-- symbol(int): the number of the text that was put aside -/
theorem m_symbolN_ok {fu N : Nat} {T : Nat → List Nat} {σ : SM} {t : List Nat} (hS : mSy N T σ) (hlen : t.length ≤ 60000) (hfu : 65536 < fu) (hch : ∀ k, ch t k < 65536) (hc : ∀ k, k < t.length → σ.2 2 k = nI (ch t k)) (hroom : N < 20000 ∧ sta T N + t.length ≤ 60000) :
    ∃ s N' T' σ', m_symbolN fu σ (nI t.length) = some (nI s, σ') ∧ mSy N' T' σ' ∧ s < N' ∧ T' s = t ∧ N ≤ N' ∧ N' ≤ N + 1 ∧ sta T' N' ≤ sta T N + t.length ∧ (∀ i, i < N → T' i = T i) ∧ mfr [3, 8] [1, 4, 5, 6, 7] σ σ' := by
  have e : m_symbolN fu σ (nI t.length) = m_symbolN_46L fu fu σ (nI t.length) (nI (hsh t)) (oI (prv T (hsh t) N)) := by
    unfold m_symbolN m_symbolN_0
    have := m_sym_hash (fu := fu) hlen hc t.length 0 fu (by omega) (by omega)
    rw [hS.2.2.2.2.2.1 _ (hsh_eq t).2] at this
    exact this
  rw [e]
  have hN := hS.1
  have hfnd := m_sym_find hS hlen hfu hch hc N fu (Nat.le_refl _) (by omega)
  by_cases hx : ∃ i, i < N ∧ T i = t
  · obtain ⟨i, hi, ht⟩ := hx
    exact ⟨i, N, T, σ, hfnd.1 i hi ht, hS, hi, ht, Nat.le_refl _, by omega, by omega, fun _ _ => rfl, mfr.rf⟩
  · have hnew : ∀ i, i < N → T i ≠ t := fun i hi q => hx ⟨i, hi, q⟩
    rw [hfnd.2 hnew]
    obtain ⟨σ', q1, q2, q3⟩ := m_sym_add (fu := fu) hlen hch hroom hnew t.length 0 fu σ (by omega) (by omega) hS hc (fun j hj => absurd hj (by omega))
    refine ⟨N, N + 1, uT T N t, σ', q1, q2, by omega, if_pos rfl, by omega, by omega, ?_, fun i hi => if_neg (by omega), q3⟩
    show sta _ N + _ ≤ _
    rw [sta_agr (T := T) (T' := uT T N t) (fun i hi => if_neg (by omega)), show uT T N t N = t from if_pos rfl]
    omega
end Sym
