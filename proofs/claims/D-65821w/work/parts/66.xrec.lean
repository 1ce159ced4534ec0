/-! Record: the component -/
section XRec
set_option maxRecDepth 100000
variable {P : PD} {x0 c lo hd fa fu : Nat} {N : Nat → Prop} {σ : GS}
theorem eoL_su {F : Nat → Int32} {e k q r : Nat} (h : eoL F e (k + 1) q = some r) : q + 6 + U4 F (q + 2) ≤ e ∧ eoL F e k (q + 6 + U4 F (q + 2)) = some r := by
  unfold eoL at h
  split at h
  · cases h
  · split at h
    · cases h
    · exact ⟨by omega, h⟩
theorem rcA_eo {e : Nat} : ∀ k q {r s : Nat}, eoL P.1 e k q = some r → rcA P k q = .ok s → s = r := by
  intro k
  induction k with
  | zero =>
    intro q r s h1 h2
    cases h1
    cases h2
    rfl
  | succ k ih =>
    intro q r s h1 h2
    unfold rcA at h2
    split at h2
    · exact ih _ (eoL_su h1).2 h2
    · cases h2
theorem rcL_su {F : Nat → Int32} {e k q r : Nat} (h : rcL F e (k + 1) q = some r) : q + 6 ≤ e ∧ ∃ q', eoL F e (U2 F (q + 4)) (q + 6) = some q' ∧ rcL F e k q' = some r := by
  unfold rcL at h
  split at h
  · cases h
  · split at h
    · cases h
    · rename_i q' hq
      exact ⟨by omega, q', hq, h⟩
def xE2 (x0 : Nat) (σ : GS) {α : Type} (E : FE α) (k : α → Option (Int32 × GS)) : Option (Int32 × GS) := match E with
  | .ok a => k a
  | .error e => some (0, xwr σ x0 e.1 e.2)
theorem x_r204 {k114 : GS → Nat → Nat → Int32 → Int32 → Int32 → Int32 → Option (Int32 × GS)} {e : Nat} {x2 x6 : Int32} {x8 : Nat} (h : xQ P x0 c lo N hd fa σ) (g : PG P) (he : e ≤ P.2.1) : ∀ k f q i r, k < f → i + k < 70000 → eoL P.1 e k q = some r → q ≤ e → x_record_204L fu k114 f σ x0 c x2 x6 (nI q) (nI x8) (nI (i + k)) (nI i) = xE2 x0 σ (rcA P k q) fun q' => k114 σ x0 c x2 x6 (nI q') (nI (x8 + 1)) := by
  have hn := g.1
  have hF := h.2.1.2.1
  intro k
  induction k with
  | zero =>
    intro f q i r hf hi hr hq
    obtain ⟨f, rfl⟩ : ∃ z9, f = z9 + 1 := ⟨f - 1, by omega⟩
    show x_record_204 fu k114 (x_record_204L fu k114 f) σ x0 c x2 x6 (nI q) (nI x8) (nI (i + 0)) (nI i) = _
    unfold x_record_204 rcA
    rw [if_pos (nI_le (by omega) (by omega)), nx_eq, nI_1]
    rfl
  | succ k ih =>
    intro f q i r hf hi hr hq
    obtain ⟨f, rfl⟩ : ∃ z9, f = z9 + 1 := ⟨f - 1, by omega⟩
    show x_record_204 fu k114 (x_record_204L fu k114 f) σ x0 c x2 x6 (nI q) (nI x8) (nI (i + (k + 1))) (nI i) = _
    obtain ⟨h1, h2⟩ := eoL_su hr
    unfold x_record_204 rcA
    have hu := U2_lt P.1 q
    rw [if_neg (nI_ge (by omega) (by omega)), ckT_ok hF.1, x_u2_ok hF (by omega), Option.bind_some]
    by_cases ht : tgP P (U2 P.1 q) = 1
    case neg =>
      rw [x_ta_no h.2.1.1 g hu ht, Option.bind_some, if_pos rfl, if_neg ht, show (28 : Int32) = nI 28 from rfl, x_wrong_ok hF.1 h.2.2.2, Option.bind_some, ckN_0]
      rfl
    obtain ⟨t, t1, t2⟩ := x_ta_yes h.2.1.1 g hu ht
    rw [if_pos ht, t1, Option.bind_some, if_neg snn, nI_2, x_u4_ok hF (by omega), Option.bind_some, nx_eq, nx_eq, nI_1, nI_add' 6, nI_add]
    have := ih f (q + (6 + U4 P.1 (q + 2))) (i + 1) r (by omega) (by omega) (by rw [show q + (6 + U4 P.1 (q + 2)) = q + 6 + U4 P.1 (q + 2) by omega]; exact h2) (by omega)
    rw [show i + 1 + k = i + (k + 1) by omega] at this
    rw [this, show q + (6 + U4 P.1 (q + 2)) = q + 6 + U4 P.1 (q + 2) by omega]
theorem x_r114 {e pl many : Nat} (h : xQ P x0 c lo N hd fa σ) (g : PG P) (hfu : 131072 < fu) (he : e ≤ P.2.1) (hmm : many < 65536) : ∀ k f q i, k < f → i + k = many → rcL P.1 e k q = some e → q ≤ e → x_record_114L fu f σ x0 c (nI pl) (nI many) (nI q) (nI i) = xE2 x0 σ (rcT P pl k q) fun _ => some (1, gpi σ c 19 (nI many)) := by
  have hn := g.1
  have hF := h.2.1.2.1
  have hc := h.2.1.1
  have hK := h.2.2.1.k (fu := fu) (by omega)
  intro k
  induction k with
  | zero =>
    intro f q i hf hi hr hq
    obtain ⟨f, rfl⟩ : ∃ z9, f = z9 + 1 := ⟨f - 1, by omega⟩
    show x_record_114 fu (x_record_114L fu f) σ x0 c (nI pl) (nI many) (nI q) (nI i) = _
    unfold x_record_114 rcT
    rw [if_pos (nI_le (by omega) (by omega)), ckT_ok hc.1.1, nx_eq]
    rfl
  | succ k ih =>
    intro f q i hf hi hr hq
    obtain ⟨f, rfl⟩ : ∃ z9, f = z9 + 1 := ⟨f - 1, by omega⟩
    show x_record_114 fu (x_record_114L fu f) σ x0 c (nI pl) (nI many) (nI q) (nI i) = _
    obtain ⟨h1, q', h2, h3⟩ := rcL_su hr
    have hq' := (eoL_le _ _ h2).2 h1
    unfold x_record_114 rcT
    have hu := U2_lt P.1 q
    have hu2 := U2_lt P.1 (q + 2)
    have hu4 := U2_lt P.1 (q + 4)
    have e180 : x_record_180 fu σ x0 (nI pl) = some (0, xwr σ x0 37 pl) := by
      unfold x_record_180
      rw [ckT_ok hF.1, show (37 : Int32) = nI 37 from rfl, x_wrong_ok hF.1 h.2.2.2, Option.bind_some, ckN_0]
    rw [if_neg (nI_ge (by omega) (by omega)), ckT_ok hF.1, x_u2_ok hF (by omega), Option.bind_some, nI_2, nI_4, nI_6, x_u2_ok hF (by omega), x_u2_ok hF (by omega), e180]
    by_cases ht : tgP P (U2 P.1 q) = 1
    case neg =>
      rw [x_ta_no hc g hu ht, Option.bind_some, Option.bind_some, x_textAt_ok hc g hu2, Option.bind_some, if_pos rfl, ci_f (fun w => ht w.1)]
      rfl
    obtain ⟨t, t1, t2⟩ := x_ta_yes hc g hu ht
    rw [t1, Option.bind_some, Option.bind_some]
    by_cases hd2 : tgP P (U2 P.1 (q + 2)) = 1
    case neg =>
      rw [x_ta_no hc g hu2 hd2, Option.bind_some, if_neg snn, if_pos rfl, ci_f (fun w => hd2 w.2.2.1)]
      rfl
    obtain ⟨d, d1, d2⟩ := x_ta_yes hc g hu2 hd2
    have hT := t2.toxT
    have e1 : x_isPlainName fu σ t (0 : Int32) (nI (txP P (U2 P.1 q)).length) (0 : Int32) = some (bi (PlainS (txP P (U2 P.1 q)) 0 (txP P (U2 P.1 q)).length False)) := by
      have := x_isPlainName_ok (fu := fu) (a := 0) (om := 0) hT (Nat.le_refl _) (by omega) (by omega)
      rw [show ((0 : Int32) ≠ 0) = False from propext ⟨fun z => z rfl, fun z => z.elim⟩] at this
      exact this
    rw [d1, Option.bind_some, if_neg snn, if_neg snn, ckK_ok t2.1, hT.2.2.2.1, Option.bind_some, e1, Option.bind_some]
    by_cases q1 : PlainS (txP P (U2 P.1 q)) 0 (txP P (U2 P.1 q)).length False
    case neg =>
      rw [ib_f q1, ci_f (fun w => q1 w.2.1)]
      rfl
    rw [ib_t q1, ckR_ok, x_isFieldType_ok d2.toxT hK (by omega), Option.bind_some]
    by_cases q2 : FieldS (txP P (U2 P.1 (q + 2)))
    case neg =>
      rw [ib_f q2, ci_f (fun w => q2 w.2.2.2)]
      rfl
    rw [ib_t q2, ci_t ⟨ht, q1, hd2, q2⟩, Option.bind_some, nx_eq]
    have := x_r204 (fu := fu) (k114 := x_record_114L fu f) (x2 := nI pl) (x6 := nI many) (x8 := i) h g he (U2 P.1 (q + 4)) fu (q + 6) 0 q' (by omega) (by omega) h2 h1
    rw [Nat.zero_add] at this
    rw [show x_record_204L fu (x_record_114L fu f) fu σ x0 c (nI pl) (nI many) (nI (q + 6)) (nI i) (nI (U2 P.1 (q + 4))) (0 : Int32) = _ from this]
    cases hA : rcA P (U2 P.1 (q + 4)) (q + 6) with
    | error e => rfl
    | ok s =>
      have hs := rcA_eo _ _ h2 hA
      subst hs
      exact ih f s (i + 1) (by omega) (by omega) h3 hq'
theorem x_r35 {e pl many p : Nat} (h : xQ P x0 c lo N hd fa σ) (g : PG P) (hfu : 131072 < fu) (he : e ≤ P.2.1) (hmm : many < 65536) : ∀ k f q i, k < f → i + k = many → q ≤ e → x_record_35L fu f σ x0 c (nI pl) (nI p) (nI e) (nI many) (nI q) (nI i) = if rcL P.1 e k q = some e then x_record_114L fu fu σ x0 c (nI pl) (nI many) (nI (p + 2)) (0 : Int32) else some (0, xwr σ x0 30 pl) := by
  have hn := g.1
  have hF := h.2.1.2.1
  intro k
  induction k with
  | zero =>
    intro f q i hf hi hq
    obtain ⟨f, rfl⟩ : ∃ z9, f = z9 + 1 := ⟨f - 1, by omega⟩
    show x_record_35 fu (x_record_35L fu f) σ x0 c (nI pl) (nI p) (nI e) (nI many) (nI q) (nI i) = _
    unfold x_record_35 rcL
    rw [if_pos (nI_le (by omega) (by omega)), nx_eq, nI_2]
    by_cases z : q = e
    · rw [if_pos (by rw [z]), if_pos (by rw [z])]
    · rw [if_neg (fun w => z ((nI_eq (by omega) (by omega)).mp w)), if_neg (fun w => z (Option.some.inj w)), ckT_ok hF.1, show (30 : Int32) = nI 30 from rfl, x_wrong_ok hF.1 h.2.2.2, Option.bind_some, ckN_0]
  | succ k ih =>
    intro f q i hf hi hq
    obtain ⟨f, rfl⟩ : ∃ z9, f = z9 + 1 := ⟨f - 1, by omega⟩
    show x_record_35 fu (x_record_35L fu f) σ x0 c (nI pl) (nI p) (nI e) (nI many) (nI q) (nI i) = _
    unfold x_record_35 rcL
    rw [if_neg (nI_ge (by omega) (by omega)), nI_6]
    by_cases z : e < q + 6
    · rw [if_neg (nI_ge z (by omega)), if_pos z, if_neg (by simp), ckT_ok hF.1, show (30 : Int32) = nI 30 from rfl, x_wrong_ok hF.1 h.2.2.2, Option.bind_some, ckN_0]
    rw [if_pos (nI_le (by omega) (by omega)), if_neg z, ckT_ok hF.1, nI_4, x_endOfAttributes_ok hF he (by omega) (by omega) (by omega), Option.bind_some]
    have ee : eoaS P.1 (q + 4) e = eoL P.1 e (U2 P.1 (q + 4)) (q + 6) := by
      unfold eoaS
      rw [if_neg (by omega)]
    rw [ee]
    cases hE : eoL P.1 e (U2 P.1 (q + 4)) (q + 6) with
    | none =>
      rw [if_neg (show ¬ 0 ≤ oI none by decide), if_neg (by simp), show (30 : Int32) = nI 30 from rfl, x_wrong_ok hF.1 h.2.2.2, Option.bind_some, ckN_0]
    | some q' =>
      have := (eoL_le _ _ hE).2 (by omega)
      rw [if_pos (show 0 ≤ oI (some q') from nI_pos' (by omega)), nx_eq, nI_1]
      exact ih f q' (i + 1) (by omega) (by omega) this
theorem x_record_ok {C S pl p len : Nat} (h : xQ P x0 c lo N hd fa σ) (g : PG P) (hfu : 131072 < fu) (hp : p + len ≤ P.2.1) (hC : C ≤ gc σ) (hS : S ≤ gs σ) :
    xC x0 (fun a j => wx x0 a j ∨ (a = c ∧ j = 19)) C S (recS P pl p len) (fun _ σ' => σ' = gpi σ c 19 (nI (U2 P.1 p))) σ (x_record fu σ x0 c (nI pl) (nI p) (nI len)) := by
  have hn := g.1
  have hF := h.2.1.2.1
  have hu := U2_lt P.1 p
  have ew : ((x_wrong σ x0 (30 : Int32) (nI pl)).bind fun r2 => ckN .boolean r2.1 (some (r2.1, r2.2))) = some (0, xwr σ x0 30 pl) := by rw [show (30 : Int32) = nI 30 from rfl, x_wrong_ok hF.1 h.2.2.2, Option.bind_some, ckN_0]
  unfold x_record x_record_0 recS
  rw [nx_eq, nI_add, ew]
  by_cases h1 : len < 2
  · rw [if_neg (show ¬ (2 : Int32) ≤ nI len from nI_ge (b := 2) h1 (by omega)), if_pos h1, ckT_ok hF.1]
    exact xC.er (fun _ _ z => Or.inl z) hC hS
  rw [if_pos (show (2 : Int32) ≤ nI len from nI_le (a := 2) (by omega) (by omega)), if_neg h1, ckT_ok hF.1, x_u2_ok hF (by omega), Option.bind_some, nx_eq, nI_2]
  have := x_r35 (fu := fu) (pl := pl) (p := p) h g hfu hp hu (U2 P.1 p) fu (p + 2) 0 (by omega) (by omega) (by omega)
  rw [show x_record_35L fu fu σ x0 c (nI pl) (nI p) (nI (p + len)) (nI (U2 P.1 p)) (nI (p + 2)) (0 : Int32) = _ from this]
  by_cases h2 : rcL P.1 (p + len) (U2 P.1 p) (p + 2) = some (p + len)
  case neg =>
    rw [if_neg h2, if_neg h2]
    exact xC.er (fun _ _ z => Or.inl z) hC hS
  rw [if_pos h2, if_pos h2]
  have := x_r114 (fu := fu) (pl := pl) h g hfu hp hu (U2 P.1 p) fu (p + 2) 0 (by omega) (by omega) h2 (by omega)
  rw [show x_record_114L fu fu σ x0 c (nI pl) (nI (U2 P.1 p)) (nI (p + 2)) (0 : Int32) = _ from this]
  cases rcT P pl (U2 P.1 p) (p + 2) with
  | error e =>
    obtain ⟨r, q⟩ := e
    exact xC.er (fun _ _ z => Or.inl z) hC hS
  | ok u => exact ⟨_, rfl, rfl, Fq.pi (Or.inr ⟨rfl, rfl⟩)⟩
end XRec
