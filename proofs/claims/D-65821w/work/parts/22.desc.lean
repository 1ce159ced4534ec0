/-! descriptors -/
section Desc
set_option maxRecDepth 100000
def brkS (t : List Nat) : Nat → Nat → Nat
  | 0, k => k
  | d + 1, k => if ch t k = 91 then brkS t d (k + 1) else k
def semS (t : List Nat) : Nat → Nat → Nat
  | 0, k => k
  | d + 1, k => if ch t k = 59 then k else semS t d (k + 1)
theorem brkS_le (t : List Nat) : ∀ d k, k ≤ brkS t d k ∧ brkS t d k ≤ k + d := by
  intro d
  induction d with
  | zero => intro k; exact ⟨Nat.le_refl _, Nat.le_refl _⟩
  | succ d ih =>
    intro k
    unfold brkS
    have := ih (k + 1)
    split <;> omega
theorem semS_le (t : List Nat) : ∀ d k, k ≤ semS t d k ∧ semS t d k ≤ k + d := by
  intro d
  induction d with
  | zero => intro k; exact ⟨Nat.le_refl _, Nat.le_refl _⟩
  | succ d ih =>
    intro k
    unfold semS
    have := ih (k + 1)
    split <;> omega
/-- place of a letter in ZCFDBSIJ -/
def kix (c : Nat) : Option Nat := if c = 90 then some 0 else if c = 67 then some 1 else if c = 70 then some 2 else if c = 68 then some 3 else if c = 66 then some 4 else if c = 83 then some 5 else if c = 73 then some 6 else if c = 74 then some 7 else none
theorem oI_neg {o : Option Nat} (h : ∀ e, o = some e → e < 2 ^ 31) : oI o < 0 ↔ o = none := by
  cases o with
  | none => exact ⟨fun _ => rfl, fun _ => by decide⟩
  | some e => exact ⟨fun q => absurd q (nI_pos (h e rfl)), fun q => by cases q⟩
theorem oI_eq {o : Option Nat} {n : Nat} (h : ∀ e, o = some e → e < 2 ^ 31) (hn : n < 2 ^ 31) : oI o = nI n ↔ o = some n := by
  cases o with
  | none =>
    refine ⟨fun q => ?_, fun q => by cases q⟩
    have h1 : nI n < 0 := by rw [← q]; decide
    exact absurd h1 (nI_pos hn)
  | some e =>
    show nI e = nI n ↔ _
    rw [nI_eq (h e rfl) hn]
    simp
/-- the letters of KINDS, found by the component -/
def xKI (fu : Nat) (σ : GS) : Prop := gk σ (gz σ 0) = 6 ∧ ∀ c, c < 65536 → x_J2_indexOf fu σ (gz σ 0) (nI c) = some (oI (kix c))
theorem kix_lt {c e : Nat} (h : kix c = some e) : e < 8 := by
  unfold kix at h
  repeat' split at h
  all_goals first | (cases h; omega) | cases h
/-- where a field's descriptor from a ends -/
noncomputable def ftS (t : List Nat) (a : Nat) : Option Nat :=
  if 255 < brkS t (t.length - a) a - a then none else if t.length ≤ brkS t (t.length - a) a then none else
  if kix (ch t (brkS t (t.length - a) a)) = none then
    if ch t (brkS t (t.length - a) a) = 76 then
      if t.length ≤ semS t (t.length - (brkS t (t.length - a) a + 1)) (brkS t (t.length - a) a + 1) then none else
      @ite (Option Nat) (nmS t (semS t (t.length - (brkS t (t.length - a) a + 1)) (brkS t (t.length - a) a + 1) - (brkS t (t.length - a) a + 1)) (brkS t (t.length - a) a + 1) (brkS t (t.length - a) a + 1)) (Classical.propDecidable _) (some (semS t (t.length - (brkS t (t.length - a) a + 1)) (brkS t (t.length - a) a + 1) + 1)) none
    else none
  else some (brkS t (t.length - a) a + 1)
theorem ftS_lt {t : List Nat} {a e : Nat} (h : ftS t a = some e) : a < e ∧ e ≤ t.length := by
  unfold ftS at h
  have h1 := brkS_le t (t.length - a) a
  have h2 := semS_le t (t.length - (brkS t (t.length - a) a + 1)) (brkS t (t.length - a) a + 1)
  generalize brkS t (t.length - a) a = k at h h1 h2
  generalize semS t (t.length - (k + 1)) (k + 1) = q at h h2
  repeat' split at h
  all_goals first | (cases h; omega) | cases h
theorem x_brk_loop {fu : Nat} {σ : GS} {t : List Nat} {s : Nat} {a : Int32} (hT : xT t s σ) : ∀ (d k f : Nat), k + d = t.length → d < f → x_endOfType_2L fu σ f s a (nI k) = x_endOfType_26 fu σ s a (nI (brkS t d k)) := by
  obtain ⟨h1, h2, h3, h4, h5⟩ := hT
  intro d
  induction d with
  | zero =>
    intro k f hk hf
    obtain ⟨f, rfl⟩ : ∃ z9, f = z9 + 1 := ⟨f - 1, by omega⟩
    show x_endOfType_2 fu σ _ s a (nI k) = _
    unfold x_endOfType_2
    rw [ckT, if_pos h1, h4, Option.bind_some, if_pos (nI_le (by omega) (by omega))]
    rfl
  | succ d ih =>
    intro k f hk hf
    obtain ⟨f, rfl⟩ : ∃ z9, f = z9 + 1 := ⟨f - 1, by omega⟩
    show x_endOfType_2 fu σ (x_endOfType_2L fu σ f) s a (nI k) = _
    unfold x_endOfType_2
    have hc := h3 k
    rw [ckT, if_pos h1, h4, Option.bind_some, if_neg (nI_ge (by omega) (by omega)), h5 k (by omega), Option.bind_some, nx_eq, nI_1, ih (k + 1) f (by omega) (by omega)]
    simp (disch := (first | omega | decide)) only [nI_eqL, nI_leL, nI_ltL, nI_Lle, nI_Llt, nI_eq, nI_leI, nI_ltI]
    show _ = x_endOfType_26 fu σ s a (nI (if ch t k = 91 then brkS t d (k + 1) else k))
    split <;> rfl
theorem x_sem_loop {fu : Nat} {σ : GS} {t : List Nat} {s : Nat} {a : Int32} (hT : xT t s σ) : ∀ (d k f : Nat), k + d = t.length → d < f → x_endOfType_77L fu σ f s a (nI k) = x_endOfType_103 fu σ s a (nI (semS t d k)) := by
  obtain ⟨h1, h2, h3, h4, h5⟩ := hT
  intro d
  induction d with
  | zero =>
    intro k f hk hf
    obtain ⟨f, rfl⟩ : ∃ z9, f = z9 + 1 := ⟨f - 1, by omega⟩
    show x_endOfType_77 fu σ _ s a (nI k) = _
    unfold x_endOfType_77
    rw [ckT, if_pos h1, h4, Option.bind_some, if_pos (nI_le (by omega) (by omega))]
    rfl
  | succ d ih =>
    intro k f hk hf
    obtain ⟨f, rfl⟩ : ∃ z9, f = z9 + 1 := ⟨f - 1, by omega⟩
    show x_endOfType_77 fu σ (x_endOfType_77L fu σ f) s a (nI k) = _
    unfold x_endOfType_77
    have hc := h3 k
    rw [ckT, if_pos h1, h4, Option.bind_some, if_neg (nI_ge (by omega) (by omega)), h5 k (by omega), Option.bind_some, nx_eq, nI_1, ih (k + 1) f (by omega) (by omega)]
    simp (disch := (first | omega | decide)) only [nI_eqL, nI_leL, nI_ltL, nI_Lle, nI_Llt, nI_eq, nI_leI, nI_ltI]
    show _ = x_endOfType_103 fu σ s a (nI (if ch t k = 59 then k else semS t d (k + 1)))
    split <;> rfl
theorem x_endOfType_ok {fu : Nat} {σ : GS} {t : List Nat} {s a : Nat} (hT : xT t s σ) (hK : xKI fu σ) (ha : a ≤ t.length) (hfu : 65536 < fu) : x_endOfType fu σ s (nI a) = some (oI (ftS t a)) := by
  have hT' := hT
  obtain ⟨h1, h2, h3, h4, h5⟩ := hT
  unfold x_endOfType x_endOfType_0 ftS
  rw [x_brk_loop hT' (t.length - a) a fu (by omega) (by omega)]
  have hb := brkS_le t (t.length - a) a
  have hs := semS_le t (t.length - (brkS t (t.length - a) a + 1)) (brkS t (t.length - a) a + 1)
  generalize brkS t (t.length - a) a = k at hb hs ⊢
  unfold x_endOfType_26
  rw [pk_sub hb.1, ckT, if_pos h1, h4, Option.bind_some]
  simp (disch := (first | omega | decide)) only [nI_eqL, nI_leL, nI_ltL, nI_Lle, nI_Llt, nI_eq, nI_leI, nI_ltI]
  by_cases c1 : 255 < k - a
  · rw [if_pos c1, if_pos c1]; rfl
  · rw [if_neg c1, if_neg c1]
    by_cases c2 : t.length ≤ k
    · rw [if_neg (by omega), if_pos c2]; rfl
    · have hc := h3 k
      rw [if_pos (by omega), if_neg c2, h5 k (by omega), Option.bind_some, ckT, if_pos hK.1, hK.2 _ hc, Option.bind_some, nx_eq, nI_1]
      simp (disch := (first | omega | decide)) only [nI_eqL, nI_leL, nI_ltL, nI_Lle, nI_Llt, nI_eq, nI_leI, nI_ltI]
      have hkn := oI_neg (o := kix (ch t k)) (fun e he => by have := kix_lt he; omega)
      by_cases c3 : kix (ch t k) = none
      · rw [if_pos (hkn.mpr c3), if_pos c3]
        by_cases c4 : ch t k = 76
        · rw [if_pos c4, if_pos c4, x_sem_loop hT' (t.length - (k + 1)) (k + 1) fu (by omega) (by omega)]
          generalize semS t (t.length - (k + 1)) (k + 1) = e at hs ⊢
          unfold x_endOfType_103 x_endOfType_131
          rw [ckT, if_pos h1, h4, Option.bind_some, nI_1, nI_1]
          simp (disch := (first | omega | decide)) only [nI_eqL, nI_leL, nI_ltL, nI_Lle, nI_Llt, nI_eq, nI_leI, nI_ltI]
          by_cases c5 : t.length ≤ e
          · rw [if_pos c5, if_pos c5]; rfl
          · rw [if_neg c5, if_neg c5, x_isName_ok hT' (by omega) (by omega) hfu, Option.bind_some, if_bi]
            split <;> rfl
        · rw [if_neg c4, if_neg c4]; rfl
      · rw [if_neg (fun q => c3 (hkn.mp q)), if_neg c3]; rfl
theorem m_brk_loop {fu : Nat} {σ : SM} {t : List Nat} {s a : Int32} (hT : mW t s σ) : ∀ (d k f : Nat), k + d = t.length → d < f → m_fieldText_9L fu σ f s a (nI t.length) (nI k) = m_fieldText_33 fu σ s a (nI t.length) (nI (brkS t d k)) := by
  obtain ⟨h2, h3, h4, h5⟩ := hT
  intro d
  induction d with
  | zero =>
    intro k f hk hf
    obtain ⟨f, rfl⟩ : ∃ z9, f = z9 + 1 := ⟨f - 1, by omega⟩
    show m_fieldText_9 fu σ _ s a _ (nI k) = _
    unfold m_fieldText_9
    rw [if_pos (nI_le (by omega) (by omega))]
    rfl
  | succ d ih =>
    intro k f hk hf
    obtain ⟨f, rfl⟩ : ∃ z9, f = z9 + 1 := ⟨f - 1, by omega⟩
    show m_fieldText_9 fu σ (m_fieldText_9L fu σ f) s a _ (nI k) = _
    unfold m_fieldText_9
    have hc := h3 k
    rw [if_neg (nI_ge (by omega) (by omega)), h5 k (by omega), Option.bind_some, nx_eq, nI_1, ih (k + 1) f (by omega) (by omega)]
    simp (disch := (first | omega | decide)) only [nI_eqL, nI_leL, nI_ltL, nI_Lle, nI_Llt, nI_eq, nI_leI, nI_ltI]
    show _ = m_fieldText_33 fu σ s a _ (nI (if ch t k = 91 then brkS t d (k + 1) else k))
    split <;> rfl
theorem m_sem_loop {fu : Nat} {σ : SM} {t : List Nat} {s a : Int32} (hT : mW t s σ) : ∀ (d k f : Nat), k + d = t.length → d < f → m_fieldText_136L fu σ f s (nI t.length) a (nI k) = m_fieldText_160 fu σ s (nI t.length) a (nI (semS t d k)) := by
  obtain ⟨h2, h3, h4, h5⟩ := hT
  intro d
  induction d with
  | zero =>
    intro k f hk hf
    obtain ⟨f, rfl⟩ : ∃ z9, f = z9 + 1 := ⟨f - 1, by omega⟩
    show m_fieldText_136 fu σ _ s _ a (nI k) = _
    unfold m_fieldText_136
    rw [if_pos (nI_le (by omega) (by omega))]
    rfl
  | succ d ih =>
    intro k f hk hf
    obtain ⟨f, rfl⟩ : ∃ z9, f = z9 + 1 := ⟨f - 1, by omega⟩
    show m_fieldText_136 fu σ (m_fieldText_136L fu σ f) s _ a (nI k) = _
    unfold m_fieldText_136
    have hc := h3 k
    rw [if_neg (nI_ge (by omega) (by omega)), h5 k (by omega), Option.bind_some, nx_eq, nI_1, ih (k + 1) f (by omega) (by omega)]
    simp (disch := (first | omega | decide)) only [nI_eqL, nI_leL, nI_ltL, nI_Lle, nI_Llt, nI_eq, nI_leI, nI_ltI]
    show _ = m_fieldText_160 fu σ s _ a (nI (if ch t k = 59 then k else semS t d (k + 1)))
    split <;> rfl
theorem m_fieldText_ok {fu : Nat} {σ : SM} {t : List Nat} {s : Int32} {a : Nat} (hT : mW t s σ) (ha : a ≤ t.length) (hfu : 65536 < fu) : m_fieldText fu σ s (nI a) = some (oI (ftS t a)) := by
  have hT' := hT
  obtain ⟨h2, h3, h4, h5⟩ := hT
  unfold m_fieldText m_fieldText_0 ftS
  rw [h4, Option.bind_some, m_brk_loop hT' (t.length - a) a fu (by omega) (by omega)]
  have hb := brkS_le t (t.length - a) a
  have hs := semS_le t (t.length - (brkS t (t.length - a) a + 1)) (brkS t (t.length - a) a + 1)
  generalize brkS t (t.length - a) a = k at hb hs ⊢
  unfold m_fieldText_33 m_fieldText_116
  rw [pk_sub hb.1]
  by_cases c1 : 255 < k - a
  · rw [if_pos (show (255 : Int32) < nI (k - a) from nI_lt (a := 255) (b := k - a) c1 (by omega)), if_pos c1]; rfl
  · rw [if_neg (show ¬ (255 : Int32) < nI (k - a) from nI_nlt (a := 255) (b := k - a) (by omega) (by decide)), if_neg c1]
    by_cases c2 : t.length ≤ k
    · rw [if_neg (nI_nlt c2 (by omega)), if_pos c2]; rfl
    · have hc := h3 k
      rw [if_pos (nI_lt (by omega) (by omega)), if_neg c2, h5 k (by omega), Option.bind_some, nx_eq, nI_1, m_sem_loop hT' (t.length - (k + 1)) (k + 1) fu (by omega) (by omega)]
      simp (disch := (first | omega | decide)) only [nI_eqL, nI_leL, nI_ltL, nI_Lle, nI_Llt, nI_eq, nI_leI, nI_ltI]
      generalize semS t (t.length - (k + 1)) (k + 1) = e at hs ⊢
      unfold m_fieldText_160 m_fieldText_187
      rw [nI_1, nI_1]
      have e2 : (if nI t.length ≤ nI e then some (-1 : Int32) else (m_nameText fu σ s (nI (k + 1)) (nI e)).bind fun r2 => if r2 = 0 then some (-1) else some (nI (e + 1))) = some (oI (if t.length ≤ e then none else @ite (Option Nat) (nmS t (e - (k + 1)) (k + 1) (k + 1)) (Classical.propDecidable _) (some (e + 1)) none)) := by
        simp (disch := (first | omega | decide)) only [nI_eqL, nI_leL, nI_ltL, nI_Lle, nI_Llt, nI_eq, nI_leI, nI_ltI]
        by_cases c5 : t.length ≤ e
        · rw [if_pos c5, if_pos c5]; rfl
        · rw [if_neg c5, if_neg c5, m_nameText_ok hT' (by omega) (by omega) hfu, Option.bind_some, if_bi]
          split <;> rfl
      rw [e2]
      generalize (if t.length ≤ e then none else @ite (Option Nat) (nmS t (e - (k + 1)) (k + 1) (k + 1)) (Classical.propDecidable _) (some (e + 1)) none) = o
      generalize ch t k = c
      unfold kix
      grind [oI]
end Desc
