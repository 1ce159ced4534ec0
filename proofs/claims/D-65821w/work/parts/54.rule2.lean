/-! the rules for an entry: the component -/
section Rule2
set_option maxRecDepth 100000
variable {P : PD} {c lo fu i : Nat} {N : Nat → Prop} {σ : GS}
theorem ib_ci {Q : Prop} {a b : Nat} {x y : Int32} (hx : x = nI a) (hy : y = nI b) : (if bi Q = 0 then some x else some y) = some (nI (ci Q b a)) := by
  by_cases q : Q
  · rw [ib_t q, ci_t q, hy]
  · rw [ib_f q, ci_f q, hx]
theorem x_rl12 (h : xPc P c lo N σ) (hL : xLi N σ) (g : PG P) (hfu : 131072 < fu) : ((x_textAt σ c (nI (paP P i))).bind fun r61 => (x_textAt σ c (nI (pbP P i))).bind fun r63 => if r61 = none then some (9 : Int32) else if r63 = none then some (9 : Int32) else ckK σ 6 r61 fun a67 => (x_J2_length σ a67).bind fun r70 => (x_isPlainName fu σ a67 (0 : Int32) r70 (0 : Int32)).bind fun r72 => if r72 = 0 then x_ruleOfEntry_220 fu σ else ckR r63 fun a75 => (x_isFieldType fu σ a75).bind fun r78 => if r78 = 0 then (x_isMethodType fu σ a75).bind fun r81 => if r81 = 0 then x_ruleOfEntry_220 fu σ else x_ruleOfEntry_216 fu σ else x_ruleOfEntry_216 fu σ) = some (nI (rl12 P i)) := by
  have hK := hL.k (fu := fu) (by omega)
  unfold x_ruleOfEntry_220 x_ruleOfEntry_216 rl12
  rw [x_textAt_ok h g (paP_lt P i), Option.bind_some, x_textAt_ok h g (pbP_lt P i), Option.bind_some]
  by_cases h1 : tgP P (paP P i) = 1
  case neg =>
    rw [if_neg h1, if_pos rfl, if_neg (fun w => h1 w.1)]
    rfl
  obtain ⟨s, s1, s2⟩ := x_text h g h1
  rw [if_pos h1, s1, if_neg (by simp)]
  by_cases h2 : tgP P (pbP P i) = 1
  case neg =>
    rw [if_neg h2, if_pos rfl, if_neg (fun w => h2 w.2)]
    rfl
  obtain ⟨d, d1, d2⟩ := x_text h g h2
  have hT := s2.toxT
  have hD := d2.toxT
  rw [if_pos h2, d1, if_neg (by simp), ckK_ok s2.1, hT.2.2.2.1, Option.bind_some, if_pos ⟨h1, h2⟩]
  have e1 : x_isPlainName fu σ s (0 : Int32) (nI (txP P (paP P i)).length) (0 : Int32) = some (bi (PlainS (txP P (paP P i)) 0 (txP P (paP P i)).length False)) := by
    have := x_isPlainName_ok (fu := fu) (a := 0) (om := 0) hT (Nat.le_refl _) (by omega) (by omega)
    rw [show ((0 : Int32) ≠ 0) = False from propext ⟨fun z => z rfl, fun z => z.elim⟩] at this
    exact this
  rw [e1, Option.bind_some]
  by_cases q1 : PlainS (txP P (paP P i)) 0 (txP P (paP P i)).length False
  case neg =>
    rw [ib_f q1, ci_f (fun w => q1 w.1)]
    rfl
  rw [ib_t q1, ckR_ok, x_isFieldType_ok hD hK (by omega), Option.bind_some]
  by_cases q2 : FieldS (txP P (pbP P i))
  · rw [ib_t q2, ci_t ⟨q1, Or.inl q2⟩]
    rfl
  rw [ib_f q2, x_isMethodType_ok hD hK (by omega), Option.bind_some]
  by_cases q3 : placesS (txP P (pbP P i)) ≠ none
  · rw [ib_t q3, ci_t ⟨q1, Or.inr q3⟩]
    rfl
  · rw [ib_f q3, ci_f (fun w => w.2.elim q2 q3)]
    rfl
theorem xl1 : xl 1 = lT 10 := rfl
theorem x_rl9 (h : xPc P c lo N σ) (hL : xLi N σ) (g : PG P) (hfu : 131072 < fu) (hi : i < ctP P) : ((x_isClass σ c (nI (paP P i))).bind fun r25 => if r25 = 0 then some (9 : Int32) else (x_isPair σ c (nI (pbP P i))).bind fun r28 => if r28 = 0 then some (9 : Int32) else (x_nameAt σ c (nI i)).bind fun r31 => (x_typeAt σ c (nI i)).bind fun r33 => if nI (tgP P i) = (9 : Int32) then ckR r33 fun a55 => (x_isFieldType fu σ a55).bind fun r58 => if r58 = 0 then some (12 : Int32) else some (0 : Int32) else ckR r33 fun a36 => (x_isMethodType fu σ a36).bind fun r39 => if r39 = 0 then some (12 : Int32) else if nI (tgP P i) = (10 : Int32) then ckK σ 6 r31 fun a43 => (x_J2_equals fu σ a43 (gz σ 1)).bind fun r46 => if r46 = 0 then x_ruleOfEntry_339 fu σ r31 else ckT σ 6 a36 ((x_J2_length σ a36).bind fun r50 => (x_J2_charAt σ a36 (r50 - (1 : Int32))).bind fun r52 => if r52 = (86 : Int32) then x_ruleOfEntry_340 fu σ r31 (1 : Int32) else x_ruleOfEntry_339 fu σ r31) else x_ruleOfEntry_339 fu σ r31) = some (nI (rl9 P i)) := by
  have hK := hL.k (fu := fu) (by omega)
  have hl := tgP_lt P i
  unfold rl9
  rw [x_isClass_ok h g (paP_lt P i), Option.bind_some]
  by_cases h1 : isCl P (paP P i)
  case neg =>
    rw [ib_f h1, ci_f (fun w => h1 w.1)]
    rfl
  rw [ib_t h1, x_isPair_ok h g (pbP_lt P i), Option.bind_some]
  by_cases h2 : isPr P (pbP P i)
  case neg =>
    rw [ib_f h2, ci_f (fun w => h2 w.2)]
    rfl
  obtain ⟨s, s1, s2⟩ := x_nameAt_ok h g hi h2
  obtain ⟨d, d1, d2⟩ := x_typeAt_ok h g hi h2
  have hD := d2.toxT
  rw [ib_t h2, s1, Option.bind_some, d1, Option.bind_some, ci_t ⟨h1, h2⟩]
  have e339 : x_ruleOfEntry_339 fu σ (some s) = some (nI (ci (¬ AnglesS (nmP P i)) 0 12)) := by
    unfold x_ruleOfEntry_339 x_ruleOfEntry_340 x_ruleOfEntry_355
    rw [if_pos rfl, ckR_ok, x_hasAngles_ok s2 (by omega), Option.bind_some]
    by_cases q : AnglesS (nmP P i)
    · rw [ib_t q, ci_f (fun w => w q)]
      rfl
    · rw [ib_f q, ci_t q]
      rfl
  by_cases h9 : tgP P i = 9
  · rw [if_pos h9, if_pos (by rw [h9]; rfl), ckR_ok, x_isFieldType_ok hD hK (by omega), Option.bind_some]
    exact ib_ci rfl rfl
  rw [if_neg h9, if_neg (nL (k := 9) (by omega) (by omega) h9), ckR_ok, x_isMethodType_ok hD hK (by omega), Option.bind_some]
  by_cases q1 : placesS (tyP P i) ≠ none
  case neg =>
    rw [ib_f q1, ci_f (fun w => q1 w.1)]
    rfl
  rw [ib_t q1]
  have hlen : 3 ≤ (tyP P i).length := by
    cases hp : placesS (tyP P i) with
    | none => exact absurd hp q1
    | some k => exact (placesS_le hp).2
  by_cases h10 : tgP P i = 10
  · rw [if_pos (by rw [h10]; rfl), ckK_ok s2.1, x_equals_ok s2 (hL 1 (by omega)).1 (by omega), Option.bind_some, xl1]
    by_cases q2 : nmP P i = lT 10
    · have e1 : nI (tyP P i).length - 1 = nI ((tyP P i).length - 1) := pk_sub (b := 1) (by omega)
      have hl2 := hD.2.1
      have hc := hD.2.2.1 ((tyP P i).length - 1)
      rw [ib_t q2, ckT_ok d2.1, hD.2.2.2.1, Option.bind_some, e1, hD.2.2.2.2 _ (by omega), Option.bind_some]
      by_cases q3 : ch (tyP P i) ((tyP P i).length - 1) = 86
      · rw [if_pos (by rw [q3]; rfl), ci_t ⟨q1, Or.inl ⟨h10, q2, q3⟩⟩]
        unfold x_ruleOfEntry_340 x_ruleOfEntry_355
        rw [if_neg i10]
        rfl
      · rw [if_neg (nL (k := 86) (by omega) (by omega) q3), e339]
        refine congrArg some (congrArg nI ?_)
        rw [show (placesS (tyP P i) ≠ none ∧ ((tgP P i = 10 ∧ nmP P i = lT 10 ∧ ch (tyP P i) ((tyP P i).length - 1) = 86) ∨ ¬ AnglesS (nmP P i))) = ¬ AnglesS (nmP P i) from propext ⟨fun w => w.2.elim (fun z => absurd z.2.2 q3) id, fun w => ⟨q1, Or.inr w⟩⟩]
    · rw [ib_f q2, e339]
      refine congrArg some (congrArg nI ?_)
      rw [show (placesS (tyP P i) ≠ none ∧ ((tgP P i = 10 ∧ nmP P i = lT 10 ∧ ch (tyP P i) ((tyP P i).length - 1) = 86) ∨ ¬ AnglesS (nmP P i))) = ¬ AnglesS (nmP P i) from propext ⟨fun w => w.2.elim (fun z => absurd z.2.1 q2) id, fun w => ⟨q1, Or.inr w⟩⟩]
  · rw [if_neg (nL (k := 10) (by omega) (by omega) h10), e339]
    refine congrArg some (congrArg nI ?_)
    rw [show (placesS (tyP P i) ≠ none ∧ ((tgP P i = 10 ∧ nmP P i = lT 10 ∧ ch (tyP P i) ((tyP P i).length - 1) = 86) ∨ ¬ AnglesS (nmP P i))) = ¬ AnglesS (nmP P i) from propext ⟨fun w => w.2.elim (fun z => absurd z.1 h10) id, fun w => ⟨q1, Or.inr w⟩⟩]
theorem x_rl17 (h : xPc P c lo N σ) (hL : xLi N σ) (g : PG P) (hfu : 131072 < fu) (hi : i < ctP P) (ht : tgP P i = 17 ∨ tgP P i = 18) : x_ruleOfEntry_593 fu σ c (nI i) (nI (tgP P i)) (nI (pbP P i)) = some (nI (rl17 P i)) := by
  have hK := hL.k (fu := fu) (by omega)
  have hl := tgP_lt P i
  unfold x_ruleOfEntry_593 rl17 x_ruleOfEntry_637 x_ruleOfEntry_656
  rw [x_isPair_ok h g (pbP_lt P i), Option.bind_some]
  by_cases h2 : isPr P (pbP P i)
  case neg =>
    rw [ib_f h2, ci_f h2]
    rfl
  obtain ⟨s, s1, s2⟩ := x_nameAt_ok h g hi h2
  obtain ⟨d, d1, d2⟩ := x_typeAt_ok h g hi h2
  have hD := d2.toxT
  rw [ib_t h2, s1, Option.bind_some, d1, Option.bind_some, ci_t h2, Option.bind_some, ckR_ok, ckR_ok, ckR_ok, x_isFieldType_ok hD hK (by omega), Option.bind_some, x_isMethodType_ok hD hK (by omega), Option.bind_some, x_hasAngles_ok s2 (by omega), Option.bind_some]
  by_cases h17 : tgP P i = 17
  · rw [if_pos (show nI (tgP P i) = (17 : Int32) by rw [h17]; rfl), if_pos h17]
    by_cases q1 : FieldS (tyP P i)
    · by_cases q2 : AnglesS (nmP P i)
      · rw [ib_t q1, ib_t q2, ci_f (fun w => w.2 q2)]
        rfl
      · rw [ib_t q1, ib_f q2, ci_t ⟨q1, q2⟩]
        rfl
    · rw [ib_f q1, ci_f (fun w => q1 w.1)]
      rfl
  · rw [if_neg (nL (k := 17) (by omega) (by omega) h17), if_neg h17]
    by_cases q1 : placesS (tyP P i) ≠ none
    · by_cases q2 : AnglesS (nmP P i)
      · rw [ib_t q1, ib_t q2, ci_f (fun w => w.2 q2)]
        rfl
      · rw [ib_t q1, ib_f q2, ci_t ⟨q1, q2⟩]
        rfl
    · rw [ib_f q1, ci_f (fun w => q1 w.1)]
      rfl
/-- a method handle, once what it names is whole -/
theorem x_rl431 (h : xPc P c lo N σ) (hL : xLi N σ) (g : PG P) (hfu : 131072 < fu) (hb : pbP P i < ctP P) (hw : 9 ≤ tgP P (pbP P i) → tgP P (pbP P i) ≤ 11 → isPr P (pbP P (pbP P i))) : x_ruleOfEntry_431 fu σ c (nI (paP P i)) (nI (pbP P i)) = some (nI (ci (hdP P i) 0 13)) := by
  have hpa := paP_lt P i
  have hpb := pbP_lt P i
  have hl := tgP_lt P (pbP P i)
  have hm := mjP_lt P
  have e536 : ∀ Q : Prop, (Q → tgP P (pbP P i) = 9 ∨ tgP P (pbP P i) = 10 ∨ tgP P (pbP P i) = 11) → x_ruleOfEntry_536 fu σ c (nI (paP P i)) (nI (pbP P i)) (bi Q) = some (nI (ci (Q ∧ (paP P i ≤ 4 ∨ (nmP P (pbP P i) = lT 10 ↔ paP P i = 8))) 0 13)) := by
    intro Q hQ
    unfold x_ruleOfEntry_536 x_ruleOfEntry_574 x_ruleOfEntry_579 x_ruleOfEntry_571
    by_cases q : Q
    case neg =>
      rw [ib_f q, ci_f (fun w => q w.1)]
      rfl
    rw [ib_t q]
    by_cases h4 : paP P i ≤ 4
    · rw [if_pos (show nI (paP P i) ≤ (4 : Int32) from nI_le (b := 4) h4 (by omega)), ci_t ⟨q, Or.inl h4⟩]
      rfl
    rw [if_neg (show ¬ nI (paP P i) ≤ (4 : Int32) from nI_ge (a := 4) (by omega) (by omega))]
    have := hQ q
    obtain ⟨s, s1, s2⟩ := x_nameAt_ok h g hb (hw (by omega) (by omega))
    rw [s1, Option.bind_some, ckK_ok s2.1, x_equals_ok s2 (hL 1 (by omega)).1 (by omega), Option.bind_some, xl1]
    by_cases h8 : paP P i = 8
    · rw [if_pos (show nI (paP P i) = (8 : Int32) by rw [h8]; rfl)]
      by_cases e : nmP P (pbP P i) = lT 10
      · rw [bi_t e, if_pos rfl, ci_t ⟨q, Or.inr ⟨fun _ => h8, fun _ => e⟩⟩]
        rfl
      · rw [bi_f e, if_neg (by decide), ci_f (fun w => w.2.elim h4 (fun z => e (z.mpr h8)))]
        rfl
    · rw [if_neg (nL (k := 8) (by omega) (by omega) h8)]
      by_cases e : nmP P (pbP P i) = lT 10
      · rw [bi_t e, if_neg (by decide), ci_f (fun w => w.2.elim h4 (fun z => h8 (z.mp e)))]
        rfl
      · rw [bi_f e, if_pos rfl, ci_t ⟨q, Or.inr ⟨fun z => absurd z e, fun z => absurd z h8⟩⟩]
        rfl
  have tk : ∀ t, 0 < t → t < 256 → x_isTag σ c (nI (pbP P i)) (nI t) = some (bi (tgP P (pbP P i) = t)) := fun t h1 h2 => x_isTag_ok h g hpb h1 h2
  unfold x_ruleOfEntry_431 x_ruleOfEntry_472 x_ruleOfEntry_535 x_ruleOfEntry_531
  rw [show (9 : Int32) = nI 9 from rfl, show (10 : Int32) = nI 10 from rfl, show (11 : Int32) = nI 11 from rfl, tk 9 (by omega) (by omega), tk 10 (by omega) (by omega), tk 11 (by omega) (by omega), Option.bind_some, Option.bind_some, Option.bind_some, Option.bind_some, Option.bind_some, ckT_ok h.1.1, h.1.2.1]
  have fin : ∀ {Q R : Prop}, (Q ↔ R) → some (nI (ci Q 0 13)) = some (nI (ci R 0 13)) := fun e => by rw [propext e]
  by_cases a1 : paP P i < 1
  · rw [if_pos (show nI (paP P i) < (1 : Int32) from nI_lt (b := 1) a1 (by omega)), ci_f (fun w => by have := w.1; omega)]
    rfl
  rw [if_neg (show ¬ nI (paP P i) < (1 : Int32) from nI_nlt (b := 1) (by omega) (by omega))]
  by_cases a9 : paP P i ≤ 9
  case neg =>
    rw [if_neg (show ¬ nI (paP P i) ≤ nI 9 from nI_ge (by omega) (by omega)), ci_f (fun w => by have := w.2.1; omega)]
    rfl
  rw [if_pos (show nI (paP P i) ≤ nI 9 from nI_le a9 (by omega))]
  by_cases a4 : paP P i ≤ 4
  · rw [if_neg (show ¬ (4 : Int32) < nI (paP P i) from nI_nlt (a := 4) a4 (by omega)), e536 _ (fun w => Or.inl w)]
    refine fin ?_
    unfold hdP
    rw [if_pos a4]
    constructor
    · exact fun w => ⟨by omega, a9, w.1⟩
    · exact fun w => ⟨w.2.2, Or.inl a4⟩
  rw [if_pos (show (4 : Int32) < nI (paP P i) from nI_lt (a := 4) (by omega) (by omega))]
  by_cases a58 : paP P i = 5 ∨ paP P i = 8
  · have e : ∀ o1 o2 : Option Int32, (if nI (paP P i) = (5 : Int32) then o1 else if nI (paP P i) = (8 : Int32) then o1 else o2) = o1 := by
      intro o1 o2
      rcases a58 with z | z <;> rw [z] <;> rfl
    rw [e, e536 _ (fun w => Or.inr (Or.inl w))]
    refine fin ?_
    unfold hdP
    rw [if_neg a4, if_pos a58]
    constructor
    · exact fun w => ⟨by omega, a9, w.1, w.2.elim (fun z => absurd z a4) id⟩
    · exact fun w => ⟨w.2.2.1, Or.inr w.2.2.2⟩
  rw [if_neg (nL (k := 5) (by omega) (by omega) (fun z => a58 (Or.inl z))), if_neg (nL (k := 8) (by omega) (by omega) (fun z => a58 (Or.inr z)))]
  by_cases a99 : paP P i = 9
  · rw [if_pos (show nI (paP P i) = nI 9 by rw [a99]), e536 _ (fun w => Or.inr (Or.inr w))]
    refine fin ?_
    unfold hdP
    rw [if_neg a4, if_neg a58, if_pos a99]
    constructor
    · exact fun w => ⟨by omega, a9, w.1, w.2.elim (fun z => absurd z a4) id⟩
    · exact fun w => ⟨w.2.2.1, Or.inr w.2.2.2⟩
  rw [if_neg (show ¬ nI (paP P i) = nI 9 from fun w => a99 ((nI_eq (by omega) (by omega)).mp w))]
  have t1 := e536 True
  have t0 := e536 False (fun z => z.elim)
  rw [bi_t trivial] at t1
  rw [bi_f id] at t0
  have hhd : hdP P i ↔ (tgP P (pbP P i) = 10 ∨ (tgP P (pbP P i) = 11 ∧ 52 ≤ mjP P)) ∧ (nmP P (pbP P i) = lT 10 ↔ paP P i = 8) := by
    unfold hdP
    rw [if_neg a4, if_neg a58, if_neg a99]
    exact ⟨fun w => w.2.2, fun w => ⟨by omega, a9, w⟩⟩
  by_cases t10 : tgP P (pbP P i) = 10
  · rw [ib_t t10, t1 (fun _ => by omega)]
    refine fin (Iff.trans ?_ hhd.symm)
    exact ⟨fun w => ⟨Or.inl t10, w.2.elim (fun z => absurd z a4) id⟩, fun w => ⟨trivial, Or.inr w.2⟩⟩
  rw [ib_f t10]
  by_cases m52 : 52 ≤ mjP P
  · rw [if_neg (show ¬ nI (mjP P) < (52 : Int32) from nI_nlt (b := 52) m52 (by omega))]
    by_cases t11 : tgP P (pbP P i) = 11
    · rw [ib_t t11, t1 (fun _ => by omega)]
      refine fin (Iff.trans ?_ hhd.symm)
      exact ⟨fun w => ⟨Or.inr ⟨t11, m52⟩, w.2.elim (fun z => absurd z a4) id⟩, fun w => ⟨trivial, Or.inr w.2⟩⟩
    · rw [ib_f t11, t0]
      refine fin (Iff.trans ?_ hhd.symm)
      exact ⟨fun w => w.1.elim, fun w => (w.1.elim t10 (fun z => t11 z.1)).elim⟩
  · rw [if_pos (show nI (mjP P) < (52 : Int32) from nI_lt (b := 52) (by omega) (by omega)), t0]
    refine fin (Iff.trans ?_ hhd.symm)
    exact ⟨fun w => w.1.elim, fun w => (w.1.elim t10 (fun z => m52 z.2)).elim⟩
end Rule2
