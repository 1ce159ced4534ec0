/-! texts: what the functions over names and descriptors compute -/
section Text
set_option maxRecDepth 100000
theorem nI_eqL {c : Nat} (hc : c < 2 ^ 31) (k : Nat) (hk : k < 2 ^ 31) : (nI c = no_index (OfNat.ofNat k)) ↔ c = k := nI_eq hc hk
theorem nI_leL {c : Nat} (hc : c < 2 ^ 31) (k : Nat) (hk : k < 2 ^ 31) : (nI c ≤ no_index (OfNat.ofNat k)) ↔ c ≤ k := nI_leI hc hk
theorem nI_ltL {c : Nat} (hc : c < 2 ^ 31) (k : Nat) (hk : k < 2 ^ 31) : (nI c < no_index (OfNat.ofNat k)) ↔ c < k := nI_ltI hc hk
theorem nI_Lle {c : Nat} (hc : c < 2 ^ 31) (k : Nat) (hk : k < 2 ^ 31) : (no_index (OfNat.ofNat k) ≤ nI c) ↔ k ≤ c := nI_leI hk hc
theorem nI_Llt {c : Nat} (hc : c < 2 ^ 31) (k : Nat) (hk : k < 2 ^ 31) : (no_index (OfNat.ofNat k) < nI c) ↔ k < c := nI_ltI hk hc
theorem nI_addL (a k : Nat) : nI a + no_index (OfNat.ofNat k) = nI (a + k) := nI_add a k
theorem nI_subL {a : Nat} (k : Nat) (h : k ≤ a) : nI a - no_index (OfNat.ofNat k) = nI (a - k) := pk_sub h
theorem nx_eq {α β : Type} (a : α) (k : α → β) : nx a k = k a := rfl
theorem ckT_ok {β : Type} {σ : GS} {K a : Nat} {k : Option β} (h : gk σ a = K) : ckT σ K a k = k := if_pos h
theorem ckK_ok {β : Type} {σ : GS} {K a : Nat} {k : Nat → Option β} (h : gk σ a = K) : ckK σ K (some a) k = k a := if_pos h
theorem ckR_ok {β : Type} {a : Nat} {k : Nat → Option β} : ckR (some a) k = k a := rfl
theorem ckW_ok {β : Type} {σ : GS} {a : Nat} {k : Option β} (h : gb σ ≤ a) : ckW σ a k = k := if_pos h
theorem ckC_ok {β : Type} {σ : GS} {w : Nat} {k : Option β} (h : 1 ≤ gc σ ∧ w ≤ gs σ) : ckC σ w k = k := if_pos h
theorem ckL_ok {β : Type} {n : Nat} {k : Option β} (h : n ≤ 16777216) : ckL (nI n) k = k := if_pos ⟨nI_pos' (by omega), by rw [nI_clamp (by omega)]; exact h⟩
noncomputable def bi (P : Prop) : Int32 := @ite Int32 P (Classical.propDecidable P) 1 0
theorem bi_t {P : Prop} (h : P) : bi P = 1 := by unfold bi; rw [if_pos h]
theorem bi_f {P : Prop} (h : ¬ P) : bi P = 0 := by unfold bi; rw [if_neg h]
theorem bi_0 {P : Prop} : bi P = 0 ↔ ¬ P := by
  by_cases h : P
  · rw [bi_t h]; simp [h]
  · rw [bi_f h]; simp [h]
theorem bi_1 {P : Prop} : bi P = 1 ↔ P := by
  by_cases h : P
  · rw [bi_t h]; simp [h]
  · rw [bi_f h]; simp [h]
theorem bi_iff {P Q : Prop} (h : P ↔ Q) : bi P = bi Q := by rw [propext h]
theorem if_bi {α : Type} {P : Prop} {a b : α} : (if bi P = 0 then a else b) = @ite α P (Classical.propDecidable P) b a := by
  by_cases h : P
  · rw [bi_t h, if_pos h, if_neg (by decide)]
  · rw [bi_f h, if_neg h, if_pos rfl]
def oI (o : Option Nat) : Int32 := match o with
  | none => -1
  | some e => nI e
/-- a text's character -/
def ch (t : List Nat) (k : Nat) : Nat := t.getD k 0
/-- a text of the component: s a String that reads as t -/
def xT (t : List Nat) (s : Nat) (σ : GS) : Prop := gk σ s = 6 ∧ t.length < 65536 ∧ (∀ k, ch t k < 65536) ∧ x_J2_length σ s = some (nI t.length) ∧ ∀ k, k < t.length → x_J2_charAt σ s (nI k) = some (nI (ch t k))
/-- a text of the twin -/
def mW (t : List Nat) (s : Int32) (σ : SM) : Prop := t.length < 65536 ∧ (∀ k, ch t k < 65536) ∧ m_length σ s = some (nI t.length) ∧ ∀ k, k < t.length → m_at σ s (nI k) = some (nI (ch t k))
/-- a character that a plain name may have -/
def okc (om : Prop) (c : Nat) : Prop := c ≠ 46 ∧ c ≠ 59 ∧ c ≠ 91 ∧ c ≠ 47 ∧ (om → c ≠ 60 ∧ c ≠ 62)
def PlainS (t : List Nat) (a b : Nat) (om : Prop) : Prop := a < b ∧ ∀ j, a ≤ j → j < b → okc om (ch t j)
theorem all_step {P : Nat → Prop} {k b : Nat} (h : k < b) : (∀ j, k ≤ j → j < b → P j) ↔ P k ∧ ∀ j, k + 1 ≤ j → j < b → P j := by
  constructor
  · intro q
    exact ⟨q k (Nat.le_refl _) h, fun j h1 h2 => q j (by omega) h2⟩
  · intro ⟨q1, q2⟩ j h1 h2
    by_cases e : j = k
    · subst e; exact q1
    · exact q2 j (by omega) h2
theorem all_none {P : Nat → Prop} {k : Nat} : (∀ j, k ≤ j → j < k → P j) ↔ True := ⟨fun _ => trivial, fun _ j h1 h2 => absurd h2 (by omega)⟩
theorem x_plain_loop {fu : Nat} {σ : GS} {t : List Nat} {s b : Nat} {om : Int32} (hT : xT t s σ) (hb : b ≤ t.length) : ∀ (d k f : Nat), k + d = b → d < f → x_isPlainName_10L fu σ f s (nI b) om (nI k) = some (bi (∀ j, k ≤ j → j < b → okc (om ≠ 0) (ch t j))) := by
  obtain ⟨h1, h2, h3, h4, h5⟩ := hT
  intro d
  induction d with
  | zero =>
    intro k f hk hf
    obtain ⟨f, rfl⟩ : ∃ z9, f = z9 + 1 := ⟨f - 1, by omega⟩
    have e : k = b := by omega
    subst e
    show x_isPlainName_10 fu σ _ s (nI k) om (nI k) = _
    unfold x_isPlainName_10
    rw [if_pos (nI_le (Nat.le_refl _) (by omega)), bi_t (all_none.mpr trivial)]
  | succ d ih =>
    intro k f hk hf
    obtain ⟨f, rfl⟩ : ∃ z9, f = z9 + 1 := ⟨f - 1, by omega⟩
    show x_isPlainName_10 fu σ (x_isPlainName_10L fu σ f) s (nI b) om (nI k) = _
    unfold x_isPlainName_10 x_isPlainName_72
    have hc := h3 k
    rw [if_neg (nI_ge (by omega) (by omega)), ckT, if_pos h1, h5 k (by omega), Option.bind_some, nx_eq, nI_1, ih (k + 1) f (by omega) (by omega), bi_iff (all_step (show k < b by omega))]
    simp (disch := (first | omega | decide)) only [nI_eqL, nI_leL, nI_ltL, nI_Lle, nI_Llt, nI_eq, nI_leI, nI_ltI]
    generalize ch t k = c at hc ⊢
    generalize (∀ j, k + 1 ≤ j → j < b → okc (om ≠ 0) (ch t j)) = A
    unfold okc
    repeat' split
    all_goals first | exact congrArg some (bi_iff (by simp_all)) | exact (congrArg some (bi_f (by first | omega | (simp_all; done) | (simp_all; omega)))).symm | exact (congrArg some (bi_t (by first | omega | (simp_all; done) | (simp_all; omega)))).symm
theorem x_isPlainName_ok {fu : Nat} {σ : GS} {t : List Nat} {s a b : Nat} {om : Int32} (hT : xT t s σ) (hb : b ≤ t.length) (ha : a < 65536) (hf : 65536 < fu) : x_isPlainName fu σ s (nI a) (nI b) om = some (bi (PlainS t a b (om ≠ 0))) := by
  have := hT.2.1
  unfold x_isPlainName x_isPlainName_0
  by_cases h : a < b
  · rw [if_pos (nI_lt h (by omega)), x_plain_loop hT hb (b - a) a fu (by omega) (by omega)]
    congr 1
    exact bi_iff (by unfold PlainS; simp [h])
  · rw [if_neg (nI_nlt (by omega) (by omega)), bi_f (fun q => h q.1)]
theorem m_unq_loop {fu : Nat} {σ : SM} {t : List Nat} {s om : Int32} (hT : mW t s σ) : ∀ (d k f : Nat), k + d = t.length → d < f → m_unqualified_9L fu σ f s om (nI t.length) (nI k) = some (bi (0 < t.length ∧ ∀ j, k ≤ j → j < t.length → okc (om = 0) (ch t j))) := by
  obtain ⟨h2, h3, h4, h5⟩ := hT
  intro d
  induction d with
  | zero =>
    intro k f hk hf
    obtain ⟨f, rfl⟩ : ∃ z9, f = z9 + 1 := ⟨f - 1, by omega⟩
    have e : k = t.length := by omega
    subst e
    show m_unqualified_9 fu σ _ s om (nI t.length) (nI t.length) = _
    unfold m_unqualified_9
    rw [if_pos (nI_le (Nat.le_refl _) (by omega)), bi_iff (and_congr_right (fun _ => all_none))]
    simp (disch := (first | omega | decide)) only [nI_eqL, nI_leL, nI_ltL, nI_Lle, nI_Llt, nI_eq, nI_leI, nI_ltI]
    by_cases h0 : t.length ≤ 0
    · rw [if_pos h0, bi_f (fun q => by have := q.1; omega)]
    · rw [if_neg h0, bi_t ⟨by omega, trivial⟩]
  | succ d ih =>
    intro k f hk hf
    obtain ⟨f, rfl⟩ : ∃ z9, f = z9 + 1 := ⟨f - 1, by omega⟩
    show m_unqualified_9 fu σ (m_unqualified_9L fu σ f) s om (nI t.length) (nI k) = _
    unfold m_unqualified_9 m_unqualified_72
    have hc := h3 k
    rw [if_neg (nI_ge (by omega) (by omega)), h5 k (by omega), Option.bind_some, nx_eq, nI_1, ih (k + 1) f (by omega) (by omega), bi_iff (and_congr_right (fun _ => all_step (show k < t.length by omega)))]
    simp (disch := (first | omega | decide)) only [nI_eqL, nI_leL, nI_ltL, nI_Lle, nI_Llt, nI_eq, nI_leI, nI_ltI]
    generalize ch t k = c at hc ⊢
    generalize (∀ j, k + 1 ≤ j → j < t.length → okc (om = 0) (ch t j)) = A
    unfold okc
    repeat' split
    all_goals first | exact congrArg some (bi_iff (by simp_all)) | exact (congrArg some (bi_f (by first | omega | (simp_all; done) | (simp_all; omega)))).symm | exact (congrArg some (bi_t (by first | omega | (simp_all; done) | (simp_all; omega)))).symm
theorem m_unqualified_ok {fu : Nat} {σ : SM} {t : List Nat} {s om : Int32} (hT : mW t s σ) (hf : 65536 < fu) : m_unqualified fu σ s om = some (bi (PlainS t 0 t.length (om = 0))) := by
  have := hT.1
  unfold m_unqualified m_unqualified_0
  rw [hT.2.2.1, Option.bind_some, show (0 : Int32) = nI 0 from rfl, m_unq_loop hT t.length 0 fu (by omega) (by omega)]
  rfl
theorem all_snoc {P : Nat → Prop} {a k : Nat} (h : a ≤ k) : (∀ j, a ≤ j → j < k + 1 → P j) ↔ (∀ j, a ≤ j → j < k → P j) ∧ P k := by
  constructor
  · intro q
    exact ⟨fun j h1 h2 => q j h1 (by omega), q k h (by omega)⟩
  · intro ⟨q1, q2⟩ j h1 h2
    by_cases e : j = k
    · subst e; exact q2
    · exact q1 j h1 (by omega)
/-- a name with slashes, from a segment's start fr, at k, d characters left -/
def nmS (t : List Nat) : Nat → Nat → Nat → Prop
  | 0, fr, k => fr ≠ k
  | d + 1, fr, k => (ch t k ≠ 46 ∧ ch t k ≠ 59 ∧ ch t k ≠ 91) ∧ ((ch t k = 47 ∧ fr ≠ k ∧ nmS t d (k + 1) (k + 1)) ∨ (ch t k ≠ 47 ∧ nmS t d fr (k + 1)))
theorem x_name_loop {fu : Nat} {σ : GS} {t : List Nat} {s b : Nat} (hT : xT t s σ) (hb : b ≤ t.length) (hfu : 65536 < fu) : ∀ (d fr k f : Nat), k + d = b → fr ≤ k → d + 1 < f → x_isName_5L fu σ f s (nI b) (nI fr) (nI k) = some (bi ((∀ j, fr ≤ j → j < k → okc False (ch t j)) ∧ nmS t d fr k)) := by
  have hT' := hT
  obtain ⟨h1, h2, h3, h4, h5⟩ := hT
  have hom : ¬ ((0 : Int32) ≠ 0) := fun h => h rfl
  intro d
  induction d with
  | zero =>
    intro fr k f hk hfr hf
    obtain ⟨f, rfl⟩ : ∃ z9, f = z9 + 1 := ⟨f - 1, by omega⟩
    obtain ⟨f, rfl⟩ : ∃ z9, f = z9 + 1 := ⟨f - 1, by omega⟩
    have e : k = b := by omega
    subst e
    show x_isName_5 fu σ (x_isName_5L fu σ (f + 1)) s (nI k) (nI fr) (nI k) = _
    unfold x_isName_5 x_isName_28 x_isName_46
    rw [if_neg (nI_nlt (Nat.le_refl _) (by omega)), if_pos rfl, x_isPlainName_ok hT' hb (by omega) hfu, Option.bind_some, nx_eq, nx_eq, nI_1]
    have e2 : x_isName_5L fu σ (f + 1) s (nI k) (nI (k + 1)) (nI (k + 1)) = some 1 := by
      show x_isName_5 fu σ _ s _ _ _ = _
      unfold x_isName_5
      rw [if_pos (nI_lt (by omega) (by omega))]
    rw [e2]
    have e3 : PlainS t fr k ((0 : Int32) ≠ 0) ↔ (∀ j, fr ≤ j → j < k → okc False (ch t j)) ∧ nmS t 0 fr k := by
      unfold PlainS nmS
      rw [show ((0 : Int32) ≠ 0) = False from propext ⟨hom, False.elim⟩]
      constructor
      · intro ⟨q1, q2⟩
        exact ⟨q2, by omega⟩
      · intro ⟨q1, q2⟩
        exact ⟨by omega, q1⟩
    rw [bi_iff e3]
    generalize ((∀ j, fr ≤ j → j < k → okc False (ch t j)) ∧ nmS t 0 fr k) = A
    by_cases hA : A
    · rw [bi_t hA]; simp
    · rw [bi_f hA]; simp
  | succ d ih =>
    intro fr k f hk hfr hf
    obtain ⟨f, rfl⟩ : ∃ z9, f = z9 + 1 := ⟨f - 1, by omega⟩
    show x_isName_5 fu σ (x_isName_5L fu σ f) s (nI b) (nI fr) (nI k) = _
    unfold x_isName_5 x_isName_28 x_isName_46
    have hc := h3 k
    rw [if_neg (nI_nlt (by omega) (by omega)), if_neg (fun e => by rw [nI_eq (by omega) (by omega)] at e; omega), ckT, if_pos h1, h5 k (by omega), Option.bind_some, x_isPlainName_ok hT' (by omega) (by omega) hfu, Option.bind_some, nx_eq, nx_eq, nx_eq, nI_1, ih (k + 1) (k + 1) f (by omega) (by omega) (by omega), ih fr (k + 1) f (by omega) (by omega) (by omega)]
    simp (disch := (first | omega | decide)) only [nI_eqL, nI_leL, nI_ltL, nI_Lle, nI_Llt, nI_eq, nI_leI, nI_ltI]
    have e3 : PlainS t fr k ((0 : Int32) ≠ 0) ↔ (∀ j, fr ≤ j → j < k → okc False (ch t j)) ∧ fr ≠ k := by
      unfold PlainS
      rw [show ((0 : Int32) ≠ 0) = False from propext ⟨hom, False.elim⟩]
      constructor
      · intro ⟨q1, q2⟩
        exact ⟨q2, by omega⟩
      · intro ⟨q1, q2⟩
        exact ⟨by omega, q1⟩
    rw [bi_iff e3, bi_iff (and_congr_left (fun _ => all_none)), bi_iff (and_congr_left (fun _ => all_snoc hfr)), if_bi]
    show _ = some (bi (_ ∧ ((ch t k ≠ 46 ∧ ch t k ≠ 59 ∧ ch t k ≠ 91) ∧ ((ch t k = 47 ∧ fr ≠ k ∧ nmS t d (k + 1) (k + 1)) ∨ (ch t k ≠ 47 ∧ nmS t d fr (k + 1))))))
    generalize ch t k = c at hc ⊢
    generalize nmS t d (k + 1) (k + 1) = B1
    generalize nmS t d fr (k + 1) = B2
    generalize (∀ j, fr ≤ j → j < k → okc False (ch t j)) = A
    unfold okc
    by_cases hc47 : c = 47
    · rw [if_pos hc47]
      by_cases hA : A ∧ fr ≠ k
      · rw [if_pos hA]
        exact congrArg some (bi_iff (by simp_all))
      · rw [if_neg hA, bi_f (fun q => hA ⟨q.1, (q.2.2.resolve_right (fun z => z.1 hc47)).2.1⟩)]
    · rw [if_neg hc47]
      exact congrArg some (bi_iff (by grind))
theorem x_isName_ok {fu : Nat} {σ : GS} {t : List Nat} {s a b : Nat} (hT : xT t s σ) (hab : a ≤ b) (hb : b ≤ t.length) (hfu : 65536 < fu) : x_isName fu σ s (nI a) (nI b) = some (bi (nmS t (b - a) a a)) := by
  have := hT.2.1
  unfold x_isName x_isName_0
  rw [x_name_loop hT hb hfu (b - a) a a fu (by omega) (by omega) (by omega), bi_iff (and_congr_left (fun _ => all_none))]
  exact congrArg some (bi_iff (by simp))
theorem nI_m1 (a : Nat) : nI a - 1 + 1 = nI a := Int32.sub_add_cancel _ _
theorem m_name_loop {fu : Nat} {σ : SM} {t : List Nat} {s : Int32} {b : Nat} (hT : mW t s σ) (hb : b ≤ t.length) : ∀ (d fr k f : Nat), k + d = b → fr ≤ k → d + 1 < f → m_nameText_8L fu σ f s (nI b) (nI fr - 1) (nI k) = some (bi (nmS t d fr k)) := by
  obtain ⟨h2, h3, h4, h5⟩ := hT
  intro d
  induction d with
  | zero =>
    intro fr k f hk hfr hf
    obtain ⟨f, rfl⟩ : ∃ z9, f = z9 + 1 := ⟨f - 1, by omega⟩
    obtain ⟨f, rfl⟩ : ∃ z9, f = z9 + 1 := ⟨f - 1, by omega⟩
    have e : k = b := by omega
    subst e
    show m_nameText_8 fu σ (m_nameText_8L fu σ (f + 1)) s (nI k) (nI fr - 1) (nI k) = _
    unfold m_nameText_8 m_nameText_32 m_nameText_79
    have e2 : m_nameText_8L fu σ (f + 1) s (nI k) (nI k) (nI k + 1) = some 1 := by
      rw [nI_1]
      show m_nameText_8 fu σ _ s _ _ _ = _
      unfold m_nameText_8
      rw [if_pos (nI_lt (by omega) (by omega))]
    rw [if_neg (nI_nlt (Nat.le_refl _) (by omega)), if_pos (nI_le (Nat.le_refl _) (by omega)), nI_m1, nx_eq, e2]
    rw [if_neg (by decide), if_neg (by decide), if_neg (by decide), if_pos rfl]
    simp (disch := (first | omega | decide)) only [nI_eqL, nI_leL, nI_ltL, nI_Lle, nI_Llt, nI_eq, nI_leI, nI_ltI]
    unfold nmS
    split <;> first | exact congrArg some (bi_iff (by simp_all)) | exact (congrArg some (bi_f (by first | omega | (simp_all; done) | (simp_all; omega)))).symm | exact (congrArg some (bi_t (by first | omega | (simp_all; done) | (simp_all; omega)))).symm
  | succ d ih =>
    intro fr k f hk hfr hf
    obtain ⟨f, rfl⟩ : ∃ z9, f = z9 + 1 := ⟨f - 1, by omega⟩
    show m_nameText_8 fu σ (m_nameText_8L fu σ f) s (nI b) (nI fr - 1) (nI k) = _
    unfold m_nameText_8 m_nameText_32 m_nameText_79
    have hc := h3 k
    have e2 : m_nameText_8L fu σ f s (nI b) (nI k) (nI (k + 1)) = some (bi (nmS t d (k + 1) (k + 1))) := by
      have := ih (k + 1) (k + 1) f (by omega) (by omega) (by omega)
      rw [nI_pred] at this
      exact this
    rw [if_neg (nI_nlt (by omega) (by omega)), if_neg (nI_ge (by omega) (by omega)), h5 k (by omega), Option.bind_some, nx_eq, nx_eq, nI_1, nI_m1, e2, ih fr (k + 1) f (by omega) (by omega) (by omega)]
    simp (disch := (first | omega | decide)) only [nI_eqL, nI_leL, nI_ltL, nI_Lle, nI_Llt, nI_eq, nI_leI, nI_ltI]
    show _ = some (bi ((ch t k ≠ 46 ∧ ch t k ≠ 59 ∧ ch t k ≠ 91) ∧ ((ch t k = 47 ∧ fr ≠ k ∧ nmS t d (k + 1) (k + 1)) ∨ (ch t k ≠ 47 ∧ nmS t d fr (k + 1)))))
    generalize ch t k = c at hc ⊢
    generalize nmS t d (k + 1) (k + 1) = B1
    generalize nmS t d fr (k + 1) = B2
    by_cases hkf : k = fr
    · repeat' split
      all_goals first | exact congrArg some (bi_iff (by simp_all)) | exact (congrArg some (bi_f (by first | omega | (simp_all; done) | (simp_all; omega)))).symm | exact (congrArg some (bi_t (by first | omega | (simp_all; done) | (simp_all; omega)))).symm
    · have hkf' : fr ≠ k := fun e => hkf e.symm
      repeat' split
      all_goals first | exact congrArg some (bi_iff (by simp_all)) | exact (congrArg some (bi_f (by first | omega | (simp_all; done) | (simp_all; omega)))).symm | exact (congrArg some (bi_t (by first | omega | (simp_all; done) | (simp_all; omega)))).symm
theorem m_nameText_ok {fu : Nat} {σ : SM} {t : List Nat} {s : Int32} {a b : Nat} (hT : mW t s σ) (hab : a ≤ b) (hb : b ≤ t.length) (hfu : 65536 < fu) : m_nameText fu σ s (nI a) (nI b) = some (bi (nmS t (b - a) a a)) := by
  have := hT.1
  unfold m_nameText m_nameText_0
  rw [nx_eq, m_name_loop hT hb (b - a) a a fu (by omega) (by omega) (by omega)]
end Text
