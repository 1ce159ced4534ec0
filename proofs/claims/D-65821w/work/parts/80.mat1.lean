/-! the twin: which attribute it is, and some of them -/
section MAt1
set_option maxRecDepth 100000
theorem ckJ_ok {α : Type} {j : Nat} {k : Option α} (h : j < 15) : ckJ j k = k := if_pos h
section K
variable {σ : SM} {fu : Nat} {t : List Nat} {s : Int32} {j : Nat}
theorem m_is_loop (hT : mW t s σ) (hj : j < 15) (hl : t.length = lx j) : ∀ d k f, k + d = t.length → d < f → m_is_16L fu σ f s j (nI k) = some (bi (∀ i, k ≤ i → i < t.length → ch t i = ch (lT j) i)) := by
  obtain ⟨h1, h2, h3⟩ := lT_ok j hj
  obtain ⟨t1, t2, t3, t4⟩ := hT
  intro d
  induction d with
  | zero =>
    intro k f hk hf
    obtain ⟨f, rfl⟩ : ∃ z9, f = z9 + 1 := ⟨f - 1, by omega⟩
    show m_is_16 fu σ (m_is_16L fu σ f) s j (nI k) = _
    unfold m_is_16
    rw [ckJ_ok hj, if_pos (nI_le (by omega) (by omega)), bi_t (fun i w1 w2 => by omega)]
  | succ d ih =>
    intro k f hk hf
    obtain ⟨f, rfl⟩ : ∃ z9, f = z9 + 1 := ⟨f - 1, by omega⟩
    show m_is_16 fu σ (m_is_16L fu σ f) s j (nI k) = _
    unfold m_is_16
    have hk2 := h3 k (by omega)
    rw [ckJ_ok hj, if_neg (nI_ge (by omega) (by omega)), t4 k (by omega), Option.bind_some, ckJ_ok hj, ckIn_n (by omega) (by omega), nI_clamp (by omega), hk2.1, nx_eq, nI_1, ih (k + 1) f (by omega) (by omega), bi_iff (all_step (show k < t.length by omega))]
    have := t2 k
    by_cases e : ch t k = ch (lT j) k
    · rw [if_pos (by rw [e]), bi_iff (and_iff_right e)]
    · rw [if_neg (fun w => e ((nI_eq (by omega) (by omega)).mp w)), bi_f (fun w => e w.1)]
theorem m_is_ok (hT : mW t s σ) (hj : j < 15) (hfu : 65536 < fu) : m_is fu σ s j = some (bi (t = lT j)) := by
  obtain ⟨h1, h2, h3⟩ := lT_ok j hj
  unfold m_is m_is_0
  have t1 := hT.1
  rw [hT.2.2.1, Option.bind_some, ckJ_ok hj]
  by_cases e : t.length = lx j
  · rw [if_pos (by rw [e]), show m_is_16L fu σ fu s j (0 : Int32) = _ from m_is_loop hT hj e t.length 0 fu (by omega) (by omega)]
    refine congrArg some (bi_iff ⟨fun w => txt_ext (by omega) (fun k hk => w k (by omega) hk), fun w i _ _ => by rw [w]⟩)
  · rw [if_neg (fun w => e ((nI_eq (by omega) (by omega)).mp w)), bi_f (fun w => e (by rw [w, h1]))]
end K
def kin (i : Nat) : Nat := [1, 2, 2, 3, 4, 4, 4, 4, 4, 4].getD i 0
def kfr (i : Nat) : Nat := [0, 0, 0, 50, 0, 51, 55, 55, 60, 61].getD i 0
/-- the twin's tables -/
def mKn (σ : SM) : Prop := ∀ i, i < 10 → σ.2 63 i = nI (kin i) ∧ σ.2 64 i = nI (kfr i)
theorem mKn.fr {σ σ' : SM} {L A : List Nat} (h : mKn σ) (f : mfr L A σ σ') (h1 : 63 ∉ A) (h2 : 64 ∉ A) : mKn σ' := fun i hi => by
  rw [f.2 63 h1, f.2 64 h2]
  exact h i hi
theorem kin_le : ∀ i, i < 10 → kin i ≤ 4 ∧ kfr i ≤ 61 := by decide
noncomputable def knA (maj wh : Nat) (t : List Nat) : Nat → Nat → Nat → Nat
  | 0, _, w => w
  | d + 1, i, w => knA maj wh t d (i + 1) (ci (kin i = wh + 1 ∧ kfr i ≤ maj ∧ t = lT i) (i + 1) w)
theorem lT_ne : ∀ i, i < 10 → ∀ j, j < 10 → lT i = lT j → i = j := by decide +kernel
theorem knA_eq {maj wh : Nat} {t : List Nat} (hwh : wh ≤ 3) : knA maj wh t 10 0 0 = knS maj wh t := by
  have no : ∀ i w, kin i ≠ wh + 1 → ci (kin i = wh + 1 ∧ kfr i ≤ maj ∧ t = lT i) (i + 1) w = w := fun i w h => ci_f (fun z => h z.1)
  have ev : ∀ i w, kin i = wh + 1 → ci (kin i = wh + 1 ∧ kfr i ≤ maj ∧ t = lT i) (i + 1) w = if t = lT i then (if kfr i ≤ maj then i + 1 else w) else w := fun i w h => by
    by_cases h1 : t = lT i
    · rw [if_pos h1]
      by_cases h2 : kfr i ≤ maj
      · rw [if_pos h2, ci_t ⟨h, h2, h1⟩]
      · rw [if_neg h2, ci_f (fun z => h2 z.2.1)]
    · rw [if_neg h1, ci_f (fun z => h1 z.2.2)]
  unfold knS
  by_cases w0 : wh = 0
  · subst w0
    simp only [knA]
    rw [no 9 _ (by decide), no 8 _ (by decide), no 7 _ (by decide), no 6 _ (by decide), no 5 _ (by decide), no 4 _ (by decide), no 3 _ (by decide), no 2 _ (by decide), no 1 _ (by decide), ev 0 _ (by decide), if_pos trivial, if_pos (show kfr 0 ≤ maj from Nat.zero_le _)]
  by_cases w1 : wh = 1
  · subst w1
    simp only [knA]
    rw [no 9 _ (by decide), no 8 _ (by decide), no 7 _ (by decide), no 6 _ (by decide), no 5 _ (by decide), no 4 _ (by decide), no 3 _ (by decide), ev 2 _ (by decide), ev 1 _ (by decide), no 0 _ (by decide), if_neg w0, if_pos trivial, if_pos (show kfr 1 ≤ maj from Nat.zero_le _), if_pos (show kfr 2 ≤ maj from Nat.zero_le _)]
    by_cases h1 : t = lT 1
    · rw [if_pos h1, if_neg (fun w => absurd (lT_ne 1 (by omega) 2 (by omega) (h1.symm.trans w)) (by omega)), if_pos h1]
    · rw [if_neg h1, if_neg h1]
  by_cases w2 : wh = 2
  · subst w2
    simp only [knA]
    rw [no 9 _ (by decide), no 8 _ (by decide), no 7 _ (by decide), no 6 _ (by decide), no 5 _ (by decide), no 4 _ (by decide), ev 3 _ (by decide), no 2 _ (by decide), no 1 _ (by decide), no 0 _ (by decide), if_neg w0, if_neg w1, if_pos trivial]
    rfl
  obtain rfl : wh = 3 := by omega
  simp only [knA]
  rw [if_neg w0, if_neg w1, if_neg w2, no 3 _ (by decide), no 2 _ (by decide), no 1 _ (by decide), no 0 _ (by decide), ev 9 _ (by decide), ev 8 _ (by decide), ev 7 _ (by decide), ev 6 _ (by decide), ev 5 _ (by decide), ev 4 _ (by decide), if_pos (show kfr 4 ≤ maj from Nat.zero_le _)]
  have ne : ∀ {i j : Nat}, i < 10 → j < 10 → i ≠ j → t = lT i → ¬ t = lT j := fun hi hj hn h w => hn (lT_ne _ hi _ hj (h.symm.trans w))
  by_cases h4 : t = lT 4
  · rw [if_neg (ne (by omega) (by omega) (by omega) h4), if_neg (ne (by omega) (by omega) (by omega) h4), if_neg (ne (by omega) (by omega) (by omega) h4), if_neg (ne (by omega) (by omega) (by omega) h4), if_neg (ne (by omega) (by omega) (by omega) h4), if_pos h4, if_pos h4]
  rw [if_neg h4, if_neg h4]
  by_cases h5 : t = lT 5
  · rw [if_neg (ne (by omega) (by omega) (by omega) h5), if_neg (ne (by omega) (by omega) (by omega) h5), if_neg (ne (by omega) (by omega) (by omega) h5), if_neg (ne (by omega) (by omega) (by omega) h5), if_pos h5, if_pos h5]
    rfl
  rw [if_neg h5, if_neg h5]
  by_cases h6 : t = lT 6
  · rw [if_neg (ne (by omega) (by omega) (by omega) h6), if_neg (ne (by omega) (by omega) (by omega) h6), if_neg (ne (by omega) (by omega) (by omega) h6), if_pos h6, if_pos h6]
    rfl
  rw [if_neg h6, if_neg h6]
  by_cases h7 : t = lT 7
  · rw [if_neg (ne (by omega) (by omega) (by omega) h7), if_neg (ne (by omega) (by omega) (by omega) h7), if_pos h7, if_pos h7]
    rfl
  rw [if_neg h7, if_neg h7]
  by_cases h8 : t = lT 8
  · rw [if_neg (ne (by omega) (by omega) (by omega) h8), if_pos h8, if_pos h8]
    rfl
  rw [if_neg h8, if_neg h8]
  rfl
section KL
variable {σ : SM} {fu maj wh s : Nat} {t : List Nat} {x3 x4 x5 x6 x7 x8 : Int32} {k18 : SM → Int32 → Int32 → Int32 → Int32 → Int32 → Int32 → Option (Int32 × SM)}
/-- behind the loop -/
noncomputable def kEnd (fu : Nat) (k18 : SM → Int32 → Int32 → Int32 → Int32 → Int32 → Int32 → Option (Int32 × SM)) (σ : SM) (x2 x3 x4 x5 x6 x7 x8 : Int32) (w : Nat) : Option (Int32 × SM) :=
  if w = 0 then m_checkAttributes_268 fu k18 σ x2 x3 x4 x5 x6 x7 x8 else if x2 = (1 : Int32) then ckIn x3 8300 (ckIn x3 8300 (nx (sa σ 31 x3.toNatClampNeg ((σ.2 31 x3.toNatClampNeg) + (1 : Int32))) fun s6 => m_checkAttributes_160 fu k18 s6 x2 x3 x4 x5 x6 x7 x8 (nI (w - 1)))) else m_checkAttributes_160 fu k18 σ x2 x3 x4 x5 x6 x7 x8 (nI (w - 1))
noncomputable def kEnd_b (fu : Nat) (k18 : SM → Int32 → Int32 → Int32 → Int32 → Int32 → Int32 → Option (Int32 × SM)) (σ : SM) (x2 x3 x4 x5 x6 x7 x8 : Int32) (w : Nat) : Option (Int32 × SM) :=
  if w = 0 then m_checkAttributes_b_268 fu k18 σ x2 x3 x4 x5 x6 x7 x8 else if x2 = (1 : Int32) then ckIn x3 8300 (ckIn x3 8300 (nx (sa σ 31 x3.toNatClampNeg ((σ.2 31 x3.toNatClampNeg) + (1 : Int32))) fun s6 => m_checkAttributes_b_160 fu k18 s6 x2 x3 x4 x5 x6 x7 x8 (nI (w - 1)))) else m_checkAttributes_b_160 fu k18 σ x2 x3 x4 x5 x6 x7 x8 (nI (w - 1))
theorem m_kn_loop (hK : mKn σ) (h53 : σ.1 53 = nI maj) (hm : maj < 65536) (hwh : wh ≤ 3) (hT : mW t (nI s) σ) (hfu : 65536 < fu) : ∀ d i w f, i + d = 10 → w ≤ i → d < f → m_checkAttributes_79L fu k18 f σ (nI (wh + 1)) x3 x4 x5 x6 x7 x8 (nI s) (nI w - 1) (nI i) = kEnd fu k18 σ (nI (wh + 1)) x3 x4 x5 x6 x7 x8 (knA maj wh t d i w) := by
  intro d
  induction d with
  | zero =>
    intro i w f hi hw hf
    obtain ⟨f, rfl⟩ : ∃ z9, f = z9 + 1 := ⟨f - 1, by omega⟩
    obtain rfl : i = 10 := by omega
    show m_checkAttributes_79 fu k18 (m_checkAttributes_79L fu k18 f) σ (nI (wh + 1)) x3 x4 x5 x6 x7 x8 (nI s) (nI w - 1) (nI 10) = _
    unfold m_checkAttributes_79 kEnd
    rw [if_pos (show (10 : Int32) ≤ nI 10 by decide)]
    show _ = if w = 0 then _ else _
    by_cases w0 : w = 0
    · rw [if_pos (show nI w - 1 < 0 by rw [w0]; decide), if_pos w0]
    · rw [show nI w - 1 = nI (w - 1) from pk_sub (b := 1) (by omega), if_neg (show ¬ nI (w - 1) < 0 from nI_nlt (b := 0) (by omega) (by omega)), if_neg w0]
      rfl
  | succ d ih =>
    intro i w f hi hw hf
    obtain ⟨f, rfl⟩ : ∃ z9, f = z9 + 1 := ⟨f - 1, by omega⟩
    obtain ⟨k1, k2⟩ := hK i (by omega)
    obtain ⟨b1, b2⟩ := kin_le i (by omega)
    show m_checkAttributes_79 fu k18 (m_checkAttributes_79L fu k18 f) σ (nI (wh + 1)) x3 x4 x5 x6 x7 x8 (nI s) (nI w - 1) (nI i) = kEnd fu k18 σ (nI (wh + 1)) x3 x4 x5 x6 x7 x8 (knA maj wh t d (i + 1) (ci (kin i = wh + 1 ∧ kfr i ≤ maj ∧ t = lT i) (i + 1) w))
    unfold m_checkAttributes_79 m_checkAttributes_134
    rw [if_neg (show ¬ (10 : Int32) ≤ nI i from nI_ge (b := 10) (by omega) (by omega)), ckIn_n (by omega) (by omega), ckIn_n (by omega) (by omega), ckIn_n (by omega) (by omega), nI_clamp (by omega), k1, k2, h53, nx_eq, nx_eq, nI_1, m_is_ok hT (by omega) hfu, Option.bind_some]
    have no : ∀ w', ¬ (kin i = wh + 1 ∧ kfr i ≤ maj ∧ t = lT i) → w' = w → m_checkAttributes_79L fu k18 f σ (nI (wh + 1)) x3 x4 x5 x6 x7 x8 (nI s) (nI w' - 1) (nI (i + 1)) = kEnd fu k18 σ (nI (wh + 1)) x3 x4 x5 x6 x7 x8 (knA maj wh t d (i + 1) (ci (kin i = wh + 1 ∧ kfr i ≤ maj ∧ t = lT i) (i + 1) w)) := fun w' h e => by
      rw [ci_f h, e]
      exact ih (i + 1) w f (by omega) (by omega) (by omega)
    by_cases h1 : kin i = wh + 1
    case neg =>
      rw [if_neg (fun z => h1 ((nI_eq (by omega) (by omega)).mp z))]
      exact no w (fun z => h1 z.1) rfl
    rw [if_pos (by rw [h1])]
    by_cases h2 : kfr i ≤ maj
    case neg =>
      rw [if_pos (nI_lt (by omega) (by omega))]
      exact no w (fun z => h2 z.2.1) rfl
    rw [if_neg (nI_nlt (by omega) (by omega))]
    by_cases h3 : t = lT i
    case neg =>
      rw [ib_f h3]
      exact no w (fun z => h3 z.2.2) rfl
    rw [ib_t h3, ci_t ⟨h1, h2, h3⟩]
    have := ih (i + 1) (i + 1) f (by omega) (by omega) (by omega)
    rw [nI_pred] at this
    exact this
theorem m_kn_ok (hK : mKn σ) (h53 : σ.1 53 = nI maj) (hm : maj < 65536) (hwh : wh ≤ 3) (hT : mW t (nI s) σ) (hfu : 65536 < fu) : m_checkAttributes_79L fu k18 fu σ (nI (wh + 1)) x3 x4 x5 x6 x7 x8 (nI s) (-1 : Int32) (0 : Int32) = kEnd fu k18 σ (nI (wh + 1)) x3 x4 x5 x6 x7 x8 (knS maj wh t) := by
  rw [← knA_eq hwh]
  exact m_kn_loop hK h53 hm hwh hT hfu 10 0 0 fu (by omega) (by omega) (by omega)
theorem m_kn_loop_b (hK : mKn σ) (h53 : σ.1 53 = nI maj) (hm : maj < 65536) (hwh : wh ≤ 3) (hT : mW t (nI s) σ) (hfu : 65536 < fu) : ∀ d i w f, i + d = 10 → w ≤ i → d < f → m_checkAttributes_b_79L fu k18 f σ (nI (wh + 1)) x3 x4 x5 x6 x7 x8 (nI s) (nI w - 1) (nI i) = kEnd_b fu k18 σ (nI (wh + 1)) x3 x4 x5 x6 x7 x8 (knA maj wh t d i w) := by
  intro d
  induction d with
  | zero =>
    intro i w f hi hw hf
    obtain ⟨f, rfl⟩ : ∃ z9, f = z9 + 1 := ⟨f - 1, by omega⟩
    obtain rfl : i = 10 := by omega
    show m_checkAttributes_b_79 fu k18 (m_checkAttributes_b_79L fu k18 f) σ (nI (wh + 1)) x3 x4 x5 x6 x7 x8 (nI s) (nI w - 1) (nI 10) = _
    unfold m_checkAttributes_b_79 kEnd_b
    rw [if_pos (show (10 : Int32) ≤ nI 10 by decide)]
    show _ = if w = 0 then _ else _
    by_cases w0 : w = 0
    · rw [if_pos (show nI w - 1 < 0 by rw [w0]; decide), if_pos w0]
    · rw [show nI w - 1 = nI (w - 1) from pk_sub (b := 1) (by omega), if_neg (show ¬ nI (w - 1) < 0 from nI_nlt (b := 0) (by omega) (by omega)), if_neg w0]
      rfl
  | succ d ih =>
    intro i w f hi hw hf
    obtain ⟨f, rfl⟩ : ∃ z9, f = z9 + 1 := ⟨f - 1, by omega⟩
    obtain ⟨k1, k2⟩ := hK i (by omega)
    obtain ⟨b1, b2⟩ := kin_le i (by omega)
    show m_checkAttributes_b_79 fu k18 (m_checkAttributes_b_79L fu k18 f) σ (nI (wh + 1)) x3 x4 x5 x6 x7 x8 (nI s) (nI w - 1) (nI i) = kEnd_b fu k18 σ (nI (wh + 1)) x3 x4 x5 x6 x7 x8 (knA maj wh t d (i + 1) (ci (kin i = wh + 1 ∧ kfr i ≤ maj ∧ t = lT i) (i + 1) w))
    unfold m_checkAttributes_b_79 m_checkAttributes_b_134
    rw [if_neg (show ¬ (10 : Int32) ≤ nI i from nI_ge (b := 10) (by omega) (by omega)), ckIn_n (by omega) (by omega), ckIn_n (by omega) (by omega), ckIn_n (by omega) (by omega), nI_clamp (by omega), k1, k2, h53, nx_eq, nx_eq, nI_1, m_is_ok hT (by omega) hfu, Option.bind_some]
    have no : ∀ w', ¬ (kin i = wh + 1 ∧ kfr i ≤ maj ∧ t = lT i) → w' = w → m_checkAttributes_b_79L fu k18 f σ (nI (wh + 1)) x3 x4 x5 x6 x7 x8 (nI s) (nI w' - 1) (nI (i + 1)) = kEnd_b fu k18 σ (nI (wh + 1)) x3 x4 x5 x6 x7 x8 (knA maj wh t d (i + 1) (ci (kin i = wh + 1 ∧ kfr i ≤ maj ∧ t = lT i) (i + 1) w)) := fun w' h e => by
      rw [ci_f h, e]
      exact ih (i + 1) w f (by omega) (by omega) (by omega)
    by_cases h1 : kin i = wh + 1
    case neg =>
      rw [if_neg (fun z => h1 ((nI_eq (by omega) (by omega)).mp z))]
      exact no w (fun z => h1 z.1) rfl
    rw [if_pos (by rw [h1])]
    by_cases h2 : kfr i ≤ maj
    case neg =>
      rw [if_pos (nI_lt (by omega) (by omega))]
      exact no w (fun z => h2 z.2.1) rfl
    rw [if_neg (nI_nlt (by omega) (by omega))]
    by_cases h3 : t = lT i
    case neg =>
      rw [ib_f h3]
      exact no w (fun z => h3 z.2.2) rfl
    rw [ib_t h3, ci_t ⟨h1, h2, h3⟩]
    have := ih (i + 1) (i + 1) f (by omega) (by omega) (by omega)
    rw [nI_pred] at this
    exact this
theorem m_kn_ok_b (hK : mKn σ) (h53 : σ.1 53 = nI maj) (hm : maj < 65536) (hwh : wh ≤ 3) (hT : mW t (nI s) σ) (hfu : 65536 < fu) : m_checkAttributes_b_79L fu k18 fu σ (nI (wh + 1)) x3 x4 x5 x6 x7 x8 (nI s) (-1 : Int32) (0 : Int32) = kEnd_b fu k18 σ (nI (wh + 1)) x3 x4 x5 x6 x7 x8 (knS maj wh t) := by
  rw [← knA_eq hwh]
  exact m_kn_loop_b hK h53 hm hwh hT hfu 10 0 0 fu (by omega) (by omega) (by omega)
end KL
end MAt1
