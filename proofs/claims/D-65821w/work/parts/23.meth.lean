/-! methods' descriptors, kinds -/
section Meth
set_option maxRecDepth 100000
theorem ftS_31 {t : List Nat} {a : Nat} (ht : t.length < 65536) : ∀ e, ftS t a = some e → e < 2 ^ 31 := fun e h => by have := ftS_lt h; omega
def FieldS (t : List Nat) : Prop := ftS t 0 = some t.length
theorem x_isFieldType_ok {fu : Nat} {σ : GS} {t : List Nat} {s : Nat} (hT : xT t s σ) (hK : xKI fu σ) (hfu : 65536 < fu) : x_isFieldType fu σ s = some (bi (FieldS t)) := by
  unfold x_isFieldType x_isFieldType_0
  rw [show (0 : Int32) = nI 0 from rfl, x_endOfType_ok hT hK (Nat.zero_le _) hfu, Option.bind_some, ckT, if_pos hT.1, hT.2.2.2.1, Option.bind_some]
  have ht := hT.2.1
  have := oI_eq (ftS_31 (a := 0) ht) (show t.length < 2 ^ 31 by omega)
  by_cases h : FieldS t
  · rw [if_pos (this.mpr h), bi_t h]
  · rw [if_neg (fun q => h (this.mp q)), bi_f h]; rfl
theorem m_isField_ok {fu : Nat} {σ : SM} {t : List Nat} {s : Int32} (hT : mW t s σ) (hfu : 65536 < fu) : m_isField fu σ s = some (bi (FieldS t)) := by
  unfold m_isField m_isField_0
  rw [show (0 : Int32) = nI 0 from rfl, m_fieldText_ok hT (Nat.zero_le _) hfu, Option.bind_some, hT.2.2.1, Option.bind_some]
  have ht := hT.1
  have := oI_eq (ftS_31 (a := 0) ht) (show t.length < 2 ^ 31 by omega)
  by_cases h : FieldS t
  · rw [if_pos (this.mpr h), bi_t h]
  · rw [if_neg (fun q => h (this.mp q)), bi_f h]; rfl
def wS (c : Nat) : Nat := if c = 74 ∨ c = 68 then 2 else 1
/-- along the arguments: places so far, the place where they end; none if one is wrong -/
noncomputable def plS (t : List Nat) : Nat → Nat → Nat → Option (Nat × Nat)
  | 0, _, _ => none
  | d + 1, c, k => if t.length ≤ k then some (c, k) else if ch t k = 41 then some (c, k) else match ftS t k with
    | none => none
    | some e => plS t d (c + wS (ch t k)) e
theorem plS_le {t : List Nat} : ∀ d c k c' k', k ≤ t.length → plS t d c k = some (c', k') → c' ≤ c + 2 * (k' - k) ∧ k ≤ k' ∧ k' ≤ t.length ∧ (k' < t.length → ch t k' = 41) := by
  intro d
  induction d with
  | zero => intro c k c' k' _ h; cases h
  | succ d ih =>
    intro c k c' k' hk h
    unfold plS at h
    split at h
    · cases h; exact ⟨by omega, by omega, hk, fun q => absurd q (by omega)⟩
    · split at h
      · rename_i h41
        cases h; exact ⟨by omega, by omega, hk, fun _ => h41⟩
      · cases hf : ftS t k with
        | none => rw [hf] at h; cases h
        | some e =>
          rw [hf] at h
          have h1 := ftS_lt hf
          have h2 := ih _ _ _ _ h1.2 h
          have h3 : wS (ch t k) ≤ 2 := by unfold wS; split <;> omega
          exact ⟨by omega, by omega, h2.2.2⟩
/-- places of the arguments of a method's descriptor; none if it is none -/
noncomputable def placesS (t : List Nat) : Option Nat :=
  if t.length < 3 then none else if ch t 0 = 40 then match plS t t.length 0 1 with
    | none => none
    | some (c, k) => if t.length ≤ k then none else if c ≤ 255 then (if (k + 2 = t.length ∧ ch t (k + 1) = 86) ∨ ftS t (k + 1) = some t.length then some c else none) else none
  else none
theorem x_pl_loop {fu : Nat} {σ : GS} {t : List Nat} {s : Nat} (hT : xT t s σ) (hK : xKI fu σ) (hfu : 65536 < fu) : ∀ (d c k f : Nat), t.length < k + d → k ≤ t.length → c + 2 * (t.length - k) < 200000 → d ≤ f →
    x_placesOf_24L fu σ f s (nI c) (nI k) = match plS t d c k with
      | none => some (-1)
      | some (c', k') => x_placesOf_83 fu σ s (nI c') (nI k') := by
  have hT' := hT
  obtain ⟨h1, h2, h3, h4, h5⟩ := hT
  intro d
  induction d with
  | zero => intro c k f h _ _ _; omega
  | succ d ih =>
    intro c k f hd hk hc2 hf
    obtain ⟨f, rfl⟩ : ∃ z9, f = z9 + 1 := ⟨f - 1, by omega⟩
    show x_placesOf_24 fu σ (x_placesOf_24L fu σ f) s (nI c) (nI k) = _
    unfold x_placesOf_24 x_placesOf_61 x_placesOf_66 plS
    have hc := h3 k
    rw [ckT, if_pos h1, h4, Option.bind_some]
    by_cases c1 : t.length ≤ k
    · rw [if_pos (nI_le c1 (by omega)), if_pos c1]
    · rw [if_neg (nI_ge (by omega) (by omega)), if_neg c1, h5 k (by omega), Option.bind_some, Option.bind_some, nx_eq, nx_eq, x_endOfType_ok hT' hK hk hfu, Option.bind_some, Option.bind_some]
      have e1 := nI_addL c 2
      have e2 := nI_addL c 1
      rw [e1, e2]
      have hx : ∀ w, w ≤ 2 → (if (0 : Int32) ≤ oI (ftS t k) then x_placesOf_24L fu σ f s (nI (c + w)) (oI (ftS t k)) else some (-1)) = match (match ftS t k with | none => none | some e => plS t d (c + w) e) with
          | none => some (-1)
          | some (c', k') => x_placesOf_83 fu σ s (nI c') (nI k') := by
        intro w hw
        cases hft : ftS t k with
        | none => rw [if_neg (by decide)]
        | some e =>
          have hl := ftS_lt hft
          show (if (0 : Int32) ≤ nI e then x_placesOf_24L fu σ f s (nI (c + w)) (nI e) else some (-1)) = _
          rw [if_pos (show (0 : Int32) ≤ nI e from nI_pos' (by omega))]
          exact ih (c + w) e f (by omega) hl.2 (by omega) (by omega)
      rw [hx 2 (by omega), hx 1 (by omega)]
      simp (disch := (first | omega | decide)) only [nI_eqL, nI_leL, nI_ltL, nI_Lle, nI_Llt, nI_eq, nI_leI, nI_ltI]
      unfold wS
      generalize ch t k = ch
      by_cases q1 : ch = 41
      · simp [q1]
      · by_cases q2 : ch = 74
        · simp [q2]
        · by_cases q3 : ch = 68
          · simp [q3]
          · simp [q1, q2, q3]
theorem x_placesOf_ok {fu : Nat} {σ : GS} {t : List Nat} {s : Nat} (hT : xT t s σ) (hK : xKI fu σ) (hfu : 65536 < fu) : x_placesOf fu σ s = some (oI (placesS t)) := by
  have hT' := hT
  obtain ⟨h1, h2, h3, h4, h5⟩ := hT
  unfold x_placesOf x_placesOf_0 placesS
  rw [ckT, if_pos h1, h4, Option.bind_some]
  by_cases c1 : t.length < 3
  · rw [if_pos (show nI t.length < (3 : Int32) from nI_lt (b := 3) c1 (by decide)), if_pos c1]; rfl
  · rw [if_neg (show ¬ nI t.length < (3 : Int32) from nI_nlt (b := 3) (by omega) (by omega)), if_neg c1]
    have hc := h3 0
    rw [show (0 : Int32) = nI 0 from rfl, h5 0 (by omega), Option.bind_some, show (1 : Int32) = nI 1 from rfl, x_pl_loop hT' hK hfu t.length 0 1 fu (by omega) (by omega) (by omega) (by omega)]
    simp (disch := (first | omega | decide)) only [nI_eqL, nI_leL, nI_ltL, nI_Lle, nI_Llt, nI_eq, nI_leI, nI_ltI]
    by_cases c2 : ch t 0 = 40
    · rw [if_pos c2, if_pos c2]
      cases hp : plS t t.length 0 1 with
      | none => rfl
      | some ck =>
        obtain ⟨c, k⟩ := ck
        have hl := plS_le _ _ _ _ _ (by omega) hp
        dsimp only
        unfold x_placesOf_83 x_placesOf_127 x_placesOf_128 x_placesOf_157 x_placesOf_153
        rw [ckT, if_pos h1]
        simp only [h4, Option.bind_some, nx_eq, nI_1]
        by_cases c3 : t.length ≤ k
        · rw [if_pos (nI_le c3 (by omega)), if_pos c3]; rfl
        · rw [if_neg (nI_ge (by omega) (by omega)), if_neg c3]
          by_cases c4 : c ≤ 255
          · rw [if_pos (show nI c ≤ (255 : Int32) from nI_le (b := 255) c4 (by decide)), if_pos c4]
            have hc1 := h3 (k + 1)
            have e0 : (if True then ckT σ 6 s (if nI t.length ≤ nI (k + 1) then some (-1) else (x_endOfType fu σ s (nI (k + 1))).bind fun r6 => if r6 = nI t.length then some (nI c) else some (-1)) else some (nI c)) = some (oI (if ftS t (k + 1) = some t.length then some c else none)) := by
              rw [if_pos trivial, ckT, if_pos h1]
              by_cases c5 : t.length ≤ k + 1
              · rw [if_pos (nI_le c5 (by omega)), if_neg (fun q => by have := ftS_lt q; omega)]; rfl
              · rw [if_neg (nI_ge (by omega) (by omega)), x_endOfType_ok hT' hK (by omega) hfu, Option.bind_some]
                have hoe := oI_eq (ftS_31 (a := k + 1) h2) (show t.length < 2 ^ 31 by omega)
                by_cases c6 : ftS t (k + 1) = some t.length
                · rw [if_pos (hoe.mpr c6), if_pos c6]; rfl
                · rw [if_neg (fun q => c6 (hoe.mp q)), if_neg c6]; rfl
            rw [e0]
            rw [if_neg (show ¬ (1 : Int32) = 0 by decide)]
            rw [show nI t.length - (1 : Int32) = nI (t.length - 1) from pk_sub (b := 1) (by omega)]
            by_cases c5 : k + 2 = t.length
            · rw [if_pos (by rw [nI_eq (by omega) (by omega)]; omega), h5 (k + 1) (by omega), Option.bind_some]
              simp (disch := (first | omega | decide)) only [nI_eqL, nI_leL, nI_ltL, nI_Lle, nI_Llt, nI_eq, nI_leI, nI_ltI]
              by_cases c6 : ch t (k + 1) = 86
              · rw [if_pos c6, if_pos (Or.inl ⟨c5, c6⟩)]; rfl
              · rw [if_neg c6]
                congr 2
                simp [c6]
            · rw [if_neg (by rw [nI_eq (by omega) (by omega)]; omega)]
              congr 2
              simp [c5]
          · rw [if_neg (show ¬ nI c ≤ (255 : Int32) from nI_ge (a := 255) (by omega) (by omega)), if_neg c4]; rfl
    · rw [if_neg c2, if_neg c2]; rfl
theorem placesS_le {t : List Nat} {c : Nat} (h : placesS t = some c) : c ≤ 255 ∧ 3 ≤ t.length := by
  unfold placesS at h
  repeat' split at h
  all_goals first | (cases h; omega) | cases h
theorem x_isMethodType_ok {fu : Nat} {σ : GS} {t : List Nat} {s : Nat} (hT : xT t s σ) (hK : xKI fu σ) (hfu : 65536 < fu) : x_isMethodType fu σ s = some (bi (placesS t ≠ none)) := by
  unfold x_isMethodType x_isMethodType_0
  rw [x_placesOf_ok hT hK hfu, Option.bind_some]
  have := oI_neg (o := placesS t) (fun e he => by have := placesS_le he; omega)
  by_cases h : placesS t = none
  · rw [if_pos (this.mpr h), bi_f (fun q => q h)]
  · rw [if_neg (fun q => h (this.mp q)), bi_t h]
/-! the twin's -/
theorem m_meth_loop {fu : Nat} {σ : SM} {t : List Nat} {s : Int32} (hT : mW t s σ) (hfu : 65536 < fu) : ∀ (d c k f : Nat), t.length < k + d → k ≤ t.length → d ≤ f →
    m_isMethod_25L fu σ f s (nI t.length) (nI k) = match plS t d c k with
      | none => some 0
      | some (_, k') => m_isMethod_54 fu σ s (nI t.length) (nI k') := by
  have hT' := hT
  obtain ⟨h2, h3, h4, h5⟩ := hT
  intro d
  induction d with
  | zero => intro c k f h _ _; omega
  | succ d ih =>
    intro c k f hd hk hf
    obtain ⟨f, rfl⟩ : ∃ z9, f = z9 + 1 := ⟨f - 1, by omega⟩
    show m_isMethod_25 fu σ (m_isMethod_25L fu σ f) s (nI t.length) (nI k) = _
    unfold m_isMethod_25 plS
    have hc := h3 k
    by_cases c1 : t.length ≤ k
    · rw [if_pos (nI_le c1 (by omega)), if_pos c1]
    · rw [if_neg (nI_ge (by omega) (by omega)), if_neg c1, h5 k (by omega), Option.bind_some, m_fieldText_ok hT' hk hfu, Option.bind_some]
      simp (disch := (first | omega | decide)) only [nI_eqL, nI_leL, nI_ltL, nI_Lle, nI_Llt, nI_eq, nI_leI, nI_ltI]
      by_cases c2 : ch t k = 41
      · rw [if_pos c2, if_pos c2]
      · rw [if_neg c2, if_neg c2]
        cases hft : ftS t k with
        | none => rw [if_neg (by decide)]
        | some e =>
          have hl := ftS_lt hft
          show (if (0 : Int32) ≤ nI e then m_isMethod_25L fu σ f s (nI t.length) (nI e) else some 0) = _
          rw [if_pos (show (0 : Int32) ≤ nI e from nI_pos' (by omega))]
          exact ih (c + wS (ch t k)) e f (by omega) hl.2 (by omega)
theorem m_pl_loop {fu : Nat} {σ : SM} {t : List Nat} {s : Int32} (hT : mW t s σ) (hfu : 65536 < fu) : ∀ (d c k f c' k' : Nat), k ≤ t.length → d ≤ f → plS t d c k = some (c', k') → k' < t.length → m_places0_4L fu σ f s (nI k) (nI c) = some (nI c') := by
  have hT' := hT
  obtain ⟨h2, h3, h4, h5⟩ := hT
  intro d
  induction d with
  | zero => intro c k f c' k' _ _ h; cases h
  | succ d ih =>
    intro c k f c' k' hk hf hp hk'
    obtain ⟨f, rfl⟩ : ∃ z9, f = z9 + 1 := ⟨f - 1, by omega⟩
    show m_places0_4 fu σ (m_places0_4L fu σ f) s (nI k) (nI c) = _
    have hle := plS_le _ _ _ _ _ hk hp
    unfold plS at hp
    have hc := h3 k
    rw [if_neg (by omega)] at hp
    unfold m_places0_4 m_places0_38 m_places0_43
    rw [h5 k (by omega), Option.bind_some, Option.bind_some, nx_eq, nx_eq, m_fieldText_ok hT' hk hfu, Option.bind_some, Option.bind_some]
    have e1 := nI_addL c 2
    have e2 := nI_addL c 1
    rw [e1, e2]
    simp (disch := (first | omega | decide)) only [nI_eqL, nI_leL, nI_ltL, nI_Lle, nI_Llt, nI_eq, nI_leI, nI_ltI]
    by_cases c2 : ch t k = 41
    · rw [if_pos c2] at hp
      cases hp
      rw [if_pos c2]
    · rw [if_neg c2] at hp
      rw [if_neg c2]
      cases hft : ftS t k with
      | none => rw [hft] at hp; cases hp
      | some e =>
        rw [hft] at hp
        have hl := ftS_lt hft
        have := ih _ e f c' k' hl.2 (by omega) hp hk'
        show (if ch t k = 74 then m_places0_4L fu σ f s (nI e) (nI (c + 2)) else if ch t k = 68 then m_places0_4L fu σ f s (nI e) (nI (c + 2)) else m_places0_4L fu σ f s (nI e) (nI (c + 1))) = _
        unfold wS at this
        by_cases q1 : ch t k = 74
        · rw [if_pos q1]; simpa [q1] using this
        · by_cases q2 : ch t k = 68
          · rw [if_neg q1, if_pos q2]; simpa [q2] using this
          · rw [if_neg q1, if_neg q2]; simpa [q1, q2] using this
/-- a method's descriptor: its arguments end at k -/
theorem placesS_pl {t : List Nat} {c : Nat} (h : placesS t = some c) : ch t 0 = 40 ∧ ∃ k, plS t t.length 0 1 = some (c, k) ∧ k < t.length ∧ ((k + 2 = t.length ∧ ch t (k + 1) = 86) ∨ ftS t (k + 1) = some t.length) := by
  unfold placesS at h
  split at h
  · cases h
  · split at h
    · rename_i h40
      refine ⟨h40, ?_⟩
      cases hp : plS t t.length 0 1 with
      | none => rw [hp] at h; cases h
      | some ck =>
        obtain ⟨c', k⟩ := ck
        rw [hp] at h
        dsimp only at h
        repeat' split at h
        all_goals first | (cases h; done) | (cases h; exact ⟨k, rfl, by omega, by assumption⟩)
    · cases h
theorem m_places0_ok {fu : Nat} {σ : SM} {t : List Nat} {s : Int32} {c : Nat} (hT : mW t s σ) (hfu : 65536 < fu) (h : placesS t = some c) : m_places0 fu σ s = some (nI c) := by
  obtain ⟨-, k, hp, hk, -⟩ := placesS_pl h
  have := placesS_le h
  have := hT.1
  exact m_pl_loop hT hfu t.length 0 1 fu c k (by omega) (by omega) hp hk
theorem m_isMethod_ok {fu : Nat} {σ : SM} {t : List Nat} {s : Int32} (hT : mW t s σ) (hfu : 65536 < fu) : m_isMethod fu σ s = some (bi (placesS t ≠ none)) := by
  have hT' := hT
  obtain ⟨h2, h3, h4, h5⟩ := hT
  unfold m_isMethod m_isMethod_0
  rw [h4, Option.bind_some]
  by_cases c0 : t.length = 0
  · rw [if_pos (show nI t.length = (0 : Int32) by rw [c0]; rfl), bi_f (fun q => q (by unfold placesS; rw [if_pos (by omega)]))]
  · rw [if_neg (show ¬ nI t.length = (0 : Int32) from nI_ne0 (by omega) (by omega)), show (0 : Int32) = nI 0 from rfl, h5 0 (by omega), Option.bind_some]
    have hc := h3 0
    rw [show (1 : Int32) = nI 1 from rfl, m_meth_loop hT' hfu t.length 0 1 fu (by omega) (by omega) (by omega)]
    simp (disch := (first | omega | decide)) only [nI_eqL, nI_leL, nI_ltL, nI_Lle, nI_Llt, nI_eq, nI_leI, nI_ltI]
    by_cases c2 : ch t 0 = 40
    · rw [if_pos c2]
      cases hp : plS t t.length 0 1 with
      | none =>
        dsimp only
        rw [bi_f (fun q => q (by unfold placesS; rw [hp]; simp))]
      | some ck =>
        obtain ⟨c, k⟩ := ck
        have hl := plS_le _ _ _ _ _ (by omega) hp
        dsimp only
        unfold m_isMethod_54 m_isMethod_82 m_isMethod_94
        rw [nx_eq, nI_1, nI_1]
        by_cases c3 : t.length ≤ k
        · rw [if_neg (nI_nlt c3 (by omega)), bi_f (fun q => q (by unfold placesS; rw [hp]; simp [c3]))]
        · rw [if_pos (nI_lt (by omega) (by omega)), m_fieldText_ok hT' (by omega) hfu, Option.bind_some]
          have e0 : m_places0 fu σ s = some (nI c) := m_pl_loop hT' hfu t.length 0 1 fu c k (by omega) (by omega) hp (by omega)
          rw [e0, Option.bind_some]
          have hoe := oI_eq (ftS_31 (a := k + 1) h2) (show t.length < 2 ^ 31 by omega)
          have e4 : (if (255 : Int32) < nI c then some (0 : Int32) else some 1) = some (bi (c ≤ 255)) := by
            by_cases c4 : c ≤ 255
            · rw [if_neg (show ¬ (255 : Int32) < nI c from nI_nlt (a := 255) c4 (by decide)), bi_t c4]
            · rw [if_pos (show (255 : Int32) < nI c from nI_lt (a := 255) (by omega) (by omega)), bi_f c4]
          rw [e4]
          have e5 : placesS t ≠ none ↔ 3 ≤ t.length ∧ c ≤ 255 ∧ ((k + 2 = t.length ∧ ch t (k + 1) = 86) ∨ ftS t (k + 1) = some t.length) := by
            unfold placesS
            rw [hp]
            by_cases x1 : t.length < 3
            · simp [x1]; omega
            · simp only [x1, c2, c3, if_true, if_false]
              by_cases x2 : c ≤ 255
              · rw [if_pos x2]
                by_cases x3 : (k + 2 = t.length ∧ ch t (k + 1) = 86) ∨ ftS t (k + 1) = some t.length
                · rw [if_pos x3]; simp [x2, x3]; omega
                · rw [if_neg x3]; simp [x3]
              · rw [if_neg x2]; simp [x2]
          rw [bi_iff e5]
          have hc1 := h3 (k + 1)
          by_cases c5 : k + 2 = t.length
          · rw [if_pos (by rw [nI_eq (by omega) (by omega)]; omega), h5 (k + 1) (by omega), Option.bind_some]
            simp (disch := (first | omega | decide)) only [nI_eqL, nI_leL, nI_ltL, nI_Lle, nI_Llt, nI_eq, nI_leI, nI_ltI]
            by_cases c6 : ch t (k + 1) = 86
            · rw [if_pos c6]
              exact congrArg some (bi_iff (by simp [c5, c6]; omega))
            · rw [if_neg c6]
              by_cases c7 : ftS t (k + 1) = some t.length
              · rw [if_pos (hoe.mpr c7)]
                have := ftS_lt c7
                exact congrArg some (bi_iff (by simp [c7]; omega))
              · rw [if_neg (fun q => c7 (hoe.mp q)), bi_f (by simp [c6, c7])]
          · rw [if_neg (by rw [nI_eq (by omega) (by omega)]; omega)]
            by_cases c7 : ftS t (k + 1) = some t.length
            · rw [if_pos (hoe.mpr c7)]
              have := ftS_lt c7
              exact congrArg some (bi_iff (by simp [c7]; omega))
            · rw [if_neg (fun q => c7 (hoe.mp q)), bi_f (by simp [c5, c7])]
    · rw [if_neg c2, bi_f (fun q => q (by unfold placesS; simp [c2]))]
      rfl
/-- the last character of a method's descriptor is V only behind ) -/
theorem placesS_V {t : List Nat} (h : placesS t ≠ none) (hV : ch t (t.length - 1) = 86) : ch t (t.length - 2) = 41 := by
  cases hp : placesS t with
  | none => exact absurd hp h
  | some c =>
    obtain ⟨-, k, h1, h2, h3⟩ := placesS_pl hp
    have hle := placesS_le hp
    have h41 := (plS_le _ _ _ _ _ (by omega) h1).2.2.2 h2
    rcases h3 with ⟨e, -⟩ | e
    · rw [show t.length - 2 = k by omega]; exact h41
    · exfalso
      unfold ftS at e
      have hb := brkS_le t (t.length - (k + 1)) (k + 1)
      have hs := semS_le t (t.length - (brkS t (t.length - (k + 1)) (k + 1) + 1)) (brkS t (t.length - (k + 1)) (k + 1) + 1)
      generalize brkS t (t.length - (k + 1)) (k + 1) = q at e hb hs
      have hsem : ∀ d a, semS t d a < a + d → ch t (semS t d a) = 59 := by
        intro d
        induction d with
        | zero => intro a h; exact absurd h (by unfold semS; omega)
        | succ d ih =>
          intro a h
          unfold semS at h ⊢
          split at h
          · rename_i q; rw [if_pos q]; exact q
          · rename_i q; rw [if_neg q]; exact ih _ (by omega)
      have hs2 := hsem (t.length - (q + 1)) (q + 1)
      generalize semS t (t.length - (q + 1)) (q + 1) = r at e hs hs2
      split at e
      · cases e
      · split at e
        · cases e
        · split at e
          · split at e
            · split at e
              · cases e
              · split at e
                · have er := Option.some.inj e
                  rw [show t.length - 1 = r by omega] at hV
                  have := hs2 (by omega)
                  omega
                · cases e
            · cases e
          · rename_i hk
            have er := Option.some.inj e
            rw [show t.length - 1 = q by omega] at hV
            rw [hV] at hk
            exact hk (by decide)
theorem m_endsV_ok {σ : SM} {t : List Nat} {s : Int32} (hT : mW t s σ) (h : 2 ≤ t.length) : m_endsV σ s = some (bi (ch t (t.length - 1) = 86 ∧ ch t (t.length - 2) = 41)) := by
  obtain ⟨h2, h3, h4, h5⟩ := hT
  unfold m_endsV m_endsV_0 m_endsV_38
  have hc1 := h3 (t.length - 1)
  have hc2 := h3 (t.length - 2)
  simp only [h4, Option.bind_some]
  rw [show nI t.length - (1 : Int32) = nI (t.length - 1) from pk_sub (b := 1) (by omega), show nI t.length - (2 : Int32) = nI (t.length - 2) from pk_sub (b := 2) h, h5 _ (by omega), h5 _ (by omega), Option.bind_some, Option.bind_some]
  simp (disch := (first | omega | decide)) only [nI_eqL, nI_leL, nI_ltL, nI_Lle, nI_Llt, nI_eq, nI_leI, nI_ltI]
  repeat' split
  all_goals first | exact congrArg some (bi_iff (by simp_all)) | exact (congrArg some (bi_f (by first | omega | (simp_all; done) | (simp_all; omega)))).symm | exact (congrArg some (bi_t (by first | omega | (simp_all; done) | (simp_all; omega)))).symm
def AnglesS (t : List Nat) : Prop := ∃ j, j < t.length ∧ (ch t j = 60 ∨ ch t j = 62)
theorem m_ang_loop {fu : Nat} {σ : SM} {t : List Nat} {s : Int32} (hT : mW t s σ) : ∀ (d k f : Nat), k + d = t.length → d < f → m_angles_2L fu σ f s (nI k) = some (bi (∃ j, k ≤ j ∧ j < t.length ∧ (ch t j = 60 ∨ ch t j = 62))) := by
  obtain ⟨h2, h3, h4, h5⟩ := hT
  intro d
  induction d with
  | zero =>
    intro k f hk hf
    obtain ⟨f, rfl⟩ : ∃ z9, f = z9 + 1 := ⟨f - 1, by omega⟩
    show m_angles_2 fu σ _ s (nI k) = _
    unfold m_angles_2
    rw [h4, Option.bind_some, if_pos (nI_le (by omega) (by omega)), bi_f (fun ⟨j, q1, q2, _⟩ => by omega)]
  | succ d ih =>
    intro k f hk hf
    obtain ⟨f, rfl⟩ : ∃ z9, f = z9 + 1 := ⟨f - 1, by omega⟩
    show m_angles_2 fu σ (m_angles_2L fu σ f) s (nI k) = _
    unfold m_angles_2
    have hc := h3 k
    rw [h4, Option.bind_some, if_neg (nI_ge (by omega) (by omega)), h5 k (by omega), Option.bind_some, Option.bind_some, nx_eq, nI_1, ih (k + 1) f (by omega) (by omega)]
    simp (disch := (first | omega | decide)) only [nI_eqL, nI_leL, nI_ltL, nI_Lle, nI_Llt, nI_eq, nI_leI, nI_ltI]
    by_cases q1 : ch t k = 60
    · rw [if_pos q1, bi_t ⟨k, by omega, by omega, Or.inl q1⟩]
    · by_cases q2 : ch t k = 62
      · rw [if_neg q1, if_pos q2, bi_t ⟨k, by omega, by omega, Or.inr q2⟩]
      · rw [if_neg q1, if_neg q2]
        refine congrArg some (bi_iff ⟨fun ⟨j, x1, x2, x3⟩ => ⟨j, by omega, x2, x3⟩, fun ⟨j, x1, x2, x3⟩ => ⟨j, ?_, x2, x3⟩⟩)
        by_cases e : j = k
        · subst e; exact absurd x3 (by simp [q1, q2])
        · omega
theorem m_angles_ok {fu : Nat} {σ : SM} {t : List Nat} {s : Int32} (hT : mW t s σ) (hfu : 65536 < fu) : m_angles fu σ s = some (bi (AnglesS t)) := by
  have := hT.1
  unfold m_angles m_angles_0
  rw [show (0 : Int32) = nI 0 from rfl, m_ang_loop hT t.length 0 fu (by omega) (by omega)]
  exact congrArg some (bi_iff ⟨fun ⟨j, _, x2, x3⟩ => ⟨j, x2, x3⟩, fun ⟨j, x2, x3⟩ => ⟨j, by omega, x2, x3⟩⟩)
def kindS (c : Nat) : Nat := match kix c with
  | some i => i
  | none => if c = 86 then 9 else 8
theorem x_kindAt_ok {fu : Nat} {σ : GS} {t : List Nat} {s k : Nat} (hT : xT t s σ) (hK : xKI fu σ) (hk : k < t.length) : x_kindAt fu σ s (nI k) = some (nI (kindS (ch t k))) := by
  obtain ⟨h1, h2, h3, h4, h5⟩ := hT
  unfold x_kindAt x_kindAt_0
  have hc := h3 k
  rw [ckT, if_pos h1, h5 k hk, Option.bind_some, ckT, if_pos hK.1, hK.2 _ hc, Option.bind_some]
  have hkn := oI_neg (o := kix (ch t k)) (fun e he => by have := kix_lt he; omega)
  simp (disch := (first | omega | decide)) only [nI_eqL, nI_leL, nI_ltL, nI_Lle, nI_Llt, nI_eq, nI_leI, nI_ltI]
  unfold kindS
  cases hx : kix (ch t k) with
  | none =>
    rw [hx] at hkn
    rw [if_pos (hkn.mpr rfl)]
    dsimp only
    split <;> rfl
  | some i =>
    rw [hx] at hkn
    rw [if_neg (fun q => by have := hkn.mp q; cases this)]
    rfl
theorem kindS_lt (c : Nat) : kindS c < 10 := by
  unfold kindS
  cases hx : kix c with
  | none => dsimp only; split <;> omega
  | some i => dsimp only; have := kix_lt hx; omega
def TwoS (c : Nat) : Prop := c = 74 ∨ c = 68
theorem kindS_two (c : Nat) : (kindS c = 7 ∨ kindS c = 3) ↔ TwoS c := by
  unfold kindS kix TwoS
  by_cases q : c = 90 ∨ c = 67 ∨ c = 70 ∨ c = 68 ∨ c = 66 ∨ c = 83 ∨ c = 73 ∨ c = 74
  · rcases q with rfl | rfl | rfl | rfl | rfl | rfl | rfl | rfl <;> decide
  · have : ¬ c = 90 ∧ ¬ c = 67 ∧ ¬ c = 70 ∧ ¬ c = 68 ∧ ¬ c = 66 ∧ ¬ c = 83 ∧ ¬ c = 73 ∧ ¬ c = 74 := by omega
    simp only [this, if_false]
    split <;> simp_all
theorem x_isTwo_ok {σ : GS} {k : Nat} (hk : k < 100) : x_isTwo σ (nI k) = some (bi (k = 7 ∨ k = 3)) := by
  unfold x_isTwo x_isTwo_0 x_isTwo_11
  simp (disch := (first | omega | decide)) only [nI_eqL, nI_leL, nI_ltL, nI_Lle, nI_Llt, nI_eq, nI_leI, nI_ltI]
  repeat' split
  all_goals first | exact congrArg some (bi_iff (by simp_all)) | exact (congrArg some (bi_f (by first | omega | (simp_all; done) | (simp_all; omega)))).symm | exact (congrArg some (bi_t (by first | omega | (simp_all; done) | (simp_all; omega)))).symm
theorem m_wide_ok {σ : SM} {t : List Nat} {s : Int32} {k : Nat} (hT : mW t s σ) (hk : k < t.length) : m_wide σ s (nI k) = some (bi (TwoS (ch t k))) := by
  obtain ⟨h2, h3, h4, h5⟩ := hT
  unfold m_wide m_wide_0 m_wide_22 TwoS
  have hc := h3 k
  rw [h5 k hk, Option.bind_some, Option.bind_some]
  simp (disch := (first | omega | decide)) only [nI_eqL, nI_leL, nI_ltL, nI_Lle, nI_Llt, nI_eq, nI_leI, nI_ltI]
  repeat' split
  all_goals first | exact congrArg some (bi_iff (by simp_all)) | exact (congrArg some (bi_f (by first | omega | (simp_all; done) | (simp_all; omega)))).symm | exact (congrArg some (bi_t (by first | omega | (simp_all; done) | (simp_all; omega)))).symm
theorem x_dim_loop {fu : Nat} {σ : GS} {t : List Nat} {s : Nat} (hT : xT t s σ) : ∀ (d k f : Nat), k + d = t.length → d < f → x_dimensions_2L fu σ f s (nI k) = some (nI (brkS t d k)) := by
  obtain ⟨h1, h2, h3, h4, h5⟩ := hT
  intro d
  induction d with
  | zero =>
    intro k f hk hf
    obtain ⟨f, rfl⟩ : ∃ z9, f = z9 + 1 := ⟨f - 1, by omega⟩
    show x_dimensions_2 fu σ _ s (nI k) = _
    unfold x_dimensions_2
    rw [ckT, if_pos h1, h4, Option.bind_some, if_pos (nI_le (by omega) (by omega))]
    rfl
  | succ d ih =>
    intro k f hk hf
    obtain ⟨f, rfl⟩ : ∃ z9, f = z9 + 1 := ⟨f - 1, by omega⟩
    show x_dimensions_2 fu σ (x_dimensions_2L fu σ f) s (nI k) = _
    unfold x_dimensions_2
    have hc := h3 k
    rw [ckT, if_pos h1, h4, Option.bind_some, if_neg (nI_ge (by omega) (by omega)), h5 k (by omega), Option.bind_some, nx_eq, nI_1, ih (k + 1) f (by omega) (by omega)]
    simp (disch := (first | omega | decide)) only [nI_eqL, nI_leL, nI_ltL, nI_Lle, nI_Llt, nI_eq, nI_leI, nI_ltI]
    show _ = some (nI (if ch t k = 91 then brkS t d (k + 1) else k))
    split <;> rfl
theorem x_dimensions_ok {fu : Nat} {σ : GS} {t : List Nat} {s : Nat} (hT : xT t s σ) (hfu : 65536 < fu) : x_dimensions fu σ s = some (nI (brkS t t.length 0)) := by
  have := hT.2.1
  unfold x_dimensions x_dimensions_0
  rw [show (0 : Int32) = nI 0 from rfl, x_dim_loop hT t.length 0 fu (by omega) (by omega)]
/-- a class's text -/
def ClassS (t : List Nat) : Prop := (0 < t.length ∧ ch t 0 = 91 ∧ FieldS t) ∨ (¬ (0 < t.length ∧ ch t 0 = 91) ∧ nmS t t.length 0 0)
theorem vp_nar_bi (P : Prop) : vp_nar .boolean (bi P) = bi P := by
  by_cases h : P
  · rw [bi_t h]; rfl
  · rw [bi_f h]; rfl
theorem ckN_bi {α : Type} (P : Prop) (k : Option α) : ckN .boolean (bi P) k = k := by unfold ckN; rw [if_pos (vp_nar_bi P)]
theorem m_classText_ok {fu : Nat} {σ : SM} {t : List Nat} {s : Int32} (hT : mW t s σ) (hfu : 65536 < fu) : m_classText fu σ s = some (bi (ClassS t)) := by
  have hT' := hT
  obtain ⟨h2, h3, h4, h5⟩ := hT
  unfold m_classText m_classText_0 m_classText_41 ClassS
  have hc := h3 0
  simp only [h4, Option.bind_some]
  rw [show (0 : Int32) = nI 0 from rfl, m_nameText_ok hT' (Nat.zero_le _) (Nat.le_refl _) hfu, Option.bind_some, ckN_bi, Nat.sub_zero]
  by_cases c0 : t.length = 0
  · rw [if_pos (nI_le (by omega) (by decide))]
    exact congrArg some (bi_iff (by simp [c0]))
  · rw [if_neg (nI_ge (by omega) (by omega)), h5 0 (by omega), Option.bind_some]
    have hF := m_isField_ok hT' hfu
    unfold m_isField m_isField_0 at hF
    simp only [h4, Option.bind_some] at hF
    rw [show (0 : Int32) = nI 0 from rfl] at hF
    have hF : ((m_fieldText fu σ s (nI 0)).bind fun r7 => if r7 = nI t.length then some (1 : Int32) else some (nI 0)) = some (bi (FieldS t)) := hF
    rw [hF]
    simp (disch := (first | omega | decide)) only [nI_eqL, nI_leL, nI_ltL, nI_Lle, nI_Llt, nI_eq, nI_leI, nI_ltI]
    have hp : 0 < t.length := by omega
    by_cases q : ch t 0 = 91
    · rw [if_pos q]
      exact congrArg some (bi_iff (by simp [q, hp]))
    · rw [if_neg q]
      exact congrArg some (bi_iff (by simp [q]))
end Meth
