/-! the twin's checkPool -/
section Rule5
set_option maxRecDepth 100000
variable {P : PD} {N k fu : Nat} {S : Nat → List Nat} {σ : SM}
theorem m_nm (h : mPo P N S σ) (g : PG P) {e : Nat} (ht : twoT (tgP P e)) (hp : isPr P (pbP P e)) : ∃ s, m_index σ (nI e) 3 = some (nI (pbP P e)) ∧ m_index σ (nI (pbP P e)) 1 = some (nI (paP P (pbP P e))) ∧ m_symOf σ (nI (paP P (pbP P e))) = some (nI s) ∧ s < N ∧ S s = nmP P e ∧ mW (nmP P e) (nI s) σ := by
  obtain ⟨s, s1, s2, s3, s4⟩ := m_sym h g hp.2.1
  exact ⟨s, m_ix3 h g ht, m_ix1 h g (Or.inr (by have := hp.1; omega)), s1, s2, s3, s4⟩
theorem m_ty (h : mPo P N S σ) (g : PG P) {e : Nat} (ht : twoT (tgP P e)) (hp : isPr P (pbP P e)) : ∃ s, m_index σ (nI e) 3 = some (nI (pbP P e)) ∧ m_index σ (nI (pbP P e)) 3 = some (nI (pbP P (pbP P e))) ∧ m_symOf σ (nI (pbP P (pbP P e))) = some (nI s) ∧ s < N ∧ S s = tyP P e ∧ mW (tyP P e) (nI s) σ := by
  obtain ⟨s, s1, s2, s3, s4⟩ := m_sym h g hp.2.2
  exact ⟨s, m_ix3 h g ht, m_ix3 h g (by have := hp.1; omega), s1, s2, s3, s4⟩
theorem m_h125 (h : mPo P N S σ) (g : PG P) {e : Nat} (ht : twoT (tgP P e)) (hp : isPr P (pbP P e)) {a : Nat} (ha : a < 65536) : m_handleEntry_125 σ (nI a) (nI e) = some (bi (nmP P e = lT 10 ↔ a = 8)) := by
  obtain ⟨s, s1, s2, s3, s4, s5, s6⟩ := m_nm h g ht hp
  have h9 := h.2.1.i9 s4
  rw [s5] at h9
  unfold m_handleEntry_125 m_handleEntry_153 m_handleEntry_167
  rw [s1, Option.bind_some, s2, Option.bind_some, s3, Option.bind_some]
  by_cases h8 : a = 8
  · rw [if_pos (show nI a = (8 : Int32) by rw [h8]; rfl)]
    by_cases q : nmP P e = lT 10
    · rw [if_pos (h9.mpr q), if_pos rfl, bi_t ⟨fun _ => h8, fun _ => q⟩]
    · rw [if_neg (fun w => q (h9.mp w)), if_neg (by decide), bi_f (fun w => q (w.mpr h8))]
  · rw [if_neg (nL (k := 8) (by omega) (by omega) h8)]
    by_cases q : nmP P e = lT 10
    · rw [if_pos (h9.mpr q), if_neg (by decide), bi_f (fun w => h8 (w.mp q))]
    · rw [if_neg (fun w => q (h9.mp w)), if_pos rfl, bi_t ⟨fun w => absurd w q, fun w => absurd w h8⟩]
theorem m_handleEntry_ok (h : mPo P N S σ) (g : PG P) (ht : tgP P k = 15) (h9 : ok9 P k) : m_handleEntry σ (nI k) = some (bi (hdP P k)) := by
  obtain ⟨i1, i2, i3, i4⟩ := g.in (i := k) (by omega)
  obtain ⟨z1, z2, z3⟩ := g.sz (i := k) (by omega)
  have hpa := paP_lt P k
  have hm := mjP_lt P
  have hl := tgP_lt P (pbP P k)
  have hc := ctP_lt P
  rw [ht] at z2
  have z2 : P.2.2.1 k + 4 ≤ P.2.1 := z2
  have hp : 9 ≤ tgP P (pbP P k) → tgP P (pbP P k) ≤ 11 → isPr P (pbP P (pbP P k)) := by
    unfold ok9 at h9
    rw [if_neg (by omega), if_neg (by omega), if_neg (by omega), if_pos ht] at h9
    intro w1 w2
    exact (Classical.byContradiction fun q => h9.2 ⟨w1, w2, q⟩ : isCl P (paP P (pbP P k)) ∧ isPr P (pbP P (pbP P k))).2
  have hi := m_ix2 h g ht
  have htg := m_tag_ok h g (pbP_lt P k)
  obtain ⟨⟨a1, a2, a3, a4⟩, a5, a6⟩ := h
  have h' : mPo P N S σ := ⟨⟨a1, a2, a3, a4⟩, a5, a6⟩
  unfold m_handleEntry m_handleEntry_0
  rw [a2, Int32.zero_add, nI_clamp (by omega), ckIn_n (by omega) (by omega), (a6 k i2).1, if_neg i3, nI_1, m_u1_ok a1 (by omega), Option.bind_some, ← (paP_15 ht).1, hi, Option.bind_some, htg, Option.bind_some, a4]
  by_cases b1 : paP P k < 1
  · rw [if_pos (show nI (paP P k) < (1 : Int32) from nI_lt (b := 1) b1 (by omega)), bi_f (fun w => by have := w.1; omega)]
  rw [if_neg (show ¬ nI (paP P k) < (1 : Int32) from nI_nlt (b := 1) (by omega) (by omega))]
  by_cases b9 : paP P k ≤ 9
  case neg => rw [if_neg (show ¬ nI (paP P k) ≤ (9 : Int32) from nI_ge (a := 9) (by omega) (by omega)), bi_f (fun w => by have := w.2.1; omega)]
  rw [if_pos (show nI (paP P k) ≤ (9 : Int32) from nI_le (b := 9) b9 (by omega))]
  by_cases b4 : paP P k ≤ 4
  · rw [if_neg (show ¬ (4 : Int32) < nI (paP P k) from nI_nlt (a := 4) b4 (by omega)), nbi (k := 9) (by omega) (by omega)]
    refine congrArg some (bi_iff ?_)
    unfold hdP
    rw [if_pos b4]
    exact ⟨fun w => ⟨by omega, b9, w⟩, fun w => w.2.2⟩
  rw [if_pos (show (4 : Int32) < nI (paP P k) from nI_lt (a := 4) (by omega) (by omega))]
  by_cases a58 : paP P k = 5 ∨ paP P k = 8
  · have e : ∀ o1 o2 : Option Int32, (if nI (paP P k) = (5 : Int32) then o1 else if nI (paP P k) = (8 : Int32) then o1 else o2) = o1 := by
      intro o1 o2
      rcases a58 with z | z <;> rw [z] <;> rfl
    rw [e]
    unfold m_handleEntry_74 hdP
    rw [if_neg b4, if_pos a58]
    by_cases t10 : tgP P (pbP P k) = 10
    · rw [if_pos (show nI (tgP P (pbP P k)) = (10 : Int32) by rw [t10]; rfl), m_h125 h' g (by omega) (hp (by omega) (by omega)) hpa]
      exact congrArg some (bi_iff ⟨fun w => ⟨by omega, b9, t10, w⟩, fun w => w.2.2.2⟩)
    · rw [if_neg (nL (k := 10) (by omega) (by omega) t10), bi_f (fun w => t10 w.2.2.1)]
  rw [if_neg (nL (k := 5) (by omega) (by omega) (fun z => a58 (Or.inl z))), if_neg (nL (k := 8) (by omega) (by omega) (fun z => a58 (Or.inr z)))]
  unfold hdP
  rw [if_neg b4, if_neg a58]
  by_cases a99 : paP P k = 9
  · rw [if_pos (show nI (paP P k) = (9 : Int32) by rw [a99]; rfl), if_pos a99]
    by_cases t11 : tgP P (pbP P k) = 11
    · rw [if_pos (show nI (tgP P (pbP P k)) = (11 : Int32) by rw [t11]; rfl), m_h125 h' g (by omega) (hp (by omega) (by omega)) hpa]
      exact congrArg some (bi_iff ⟨fun w => ⟨by omega, b9, t11, w⟩, fun w => w.2.2.2⟩)
    · rw [if_neg (nL (k := 11) (by omega) (by omega) t11), bi_f (fun w => t11 w.2.2.1)]
  rw [if_neg (nL (k := 9) (by omega) (by omega) a99), if_neg a99]
  by_cases t10 : tgP P (pbP P k) = 10
  · rw [if_pos (show nI (tgP P (pbP P k)) = (10 : Int32) by rw [t10]; rfl), m_h125 h' g (by omega) (hp (by omega) (by omega)) hpa]
    exact congrArg some (bi_iff ⟨fun w => ⟨by omega, b9, Or.inl t10, w⟩, fun w => w.2.2.2⟩)
  rw [if_neg (nL (k := 10) (by omega) (by omega) t10)]
  by_cases t11 : tgP P (pbP P k) = 11
  case neg => rw [if_neg (nL (k := 11) (by omega) (by omega) t11), bi_f (fun w => w.2.2.1.elim t10 (fun z => t11 z.1))]
  rw [if_pos (show nI (tgP P (pbP P k)) = (11 : Int32) by rw [t11]; rfl)]
  by_cases m52 : 52 ≤ mjP P
  · rw [if_pos (show (52 : Int32) ≤ nI (mjP P) from nI_le (a := 52) m52 (by omega)), m_h125 h' g (by omega) (hp (by omega) (by omega)) hpa]
    exact congrArg some (bi_iff ⟨fun w => ⟨by omega, b9, Or.inr ⟨t11, m52⟩, w⟩, fun w => w.2.2.2⟩)
  · rw [if_neg (show ¬ (52 : Int32) ≤ nI (mjP P) from nI_ge (b := 52) (by omega) (by omega)), bi_f (fun w => w.2.2.1.elim t10 (fun z => m52 z.2))]
section Steps
variable {k2 : SM → Int32 → Option (Int32 × SM)} {t p : Nat}
theorem m_p330 (ht : t < 256) (h1 : t ≠ 17 ∧ t ≠ 18) {x2 : Int32} : m_checkPool_330 fu k2 σ (nI k) x2 (nI t) = k2 σ (nI (k + 1)) := by
  unfold m_checkPool_330 m_checkPool_420
  rw [if_neg (nL (k := 17) (by omega) (by omega) h1.1), if_neg (nL (k := 18) (by omega) (by omega) h1.2), nx_eq, nI_1]
theorem m_p299 (ht : t < 256) (h1 : t ≠ 17 ∧ t ≠ 18 ∧ t ≠ 16) {x2 : Int32} : m_checkPool_299 fu k2 σ (nI k) x2 (nI t) = k2 σ (nI (k + 1)) := by
  unfold m_checkPool_299
  rw [if_neg (nL (k := 16) (by omega) (by omega) h1.2.2), m_p330 ht ⟨h1.1, h1.2.1⟩]
theorem m_p277 (ht : t < 256) (h1 : t ≠ 17 ∧ t ≠ 18 ∧ t ≠ 16 ∧ t ≠ 15) {x2 : Int32} : m_checkPool_277 fu k2 σ (nI k) x2 (nI t) = k2 σ (nI (k + 1)) := by
  unfold m_checkPool_277
  rw [if_neg (nL (k := 15) (by omega) (by omega) h1.2.2.2), m_p299 ht ⟨h1.1, h1.2.1, h1.2.2.1⟩]
theorem m_p150 (ht : t < 256) (h1 : t < 9 ∨ 11 < t) {x2 : Int32} : m_checkPool_150 fu k2 σ (nI k) x2 (nI t) = m_checkPool_277 fu k2 σ (nI k) x2 (nI t) := by
  unfold m_checkPool_150
  by_cases z : t < 9
  · rw [if_pos (show nI t < (9 : Int32) from nI_lt (b := 9) z (by omega))]
  · rw [if_neg (show ¬ nI t < (9 : Int32) from nI_nlt (b := 9) (by omega) (by omega)), if_pos (show (11 : Int32) < nI t from nI_lt (a := 11) (by omega) (by omega))]
theorem m_p84 (ht : t < 256) (h1 : t ≠ 12) {x2 : Int32} : m_checkPool_84 fu k2 σ (nI k) x2 (nI t) = m_checkPool_150 fu k2 σ (nI k) x2 (nI t) := by
  unfold m_checkPool_84
  rw [if_neg (nL (k := 12) (by omega) (by omega) h1)]
theorem m_w (r : Nat) {x : Int32} (hx : x = nI r) : ((m_wrong σ x (nI p)).bind fun r1 => ckN .boolean r1.1 (some (r1.1, r1.2))) = some (0, mwr σ r p) := by
  rw [hx]
  exact m_wr_ok
/-- one entry -/
theorem m_cp84 (h : mPo P N S σ) (g : PG P) (hfu : 131072 < fu) (h9 : ok9 P k) (h7 : tgP P k = 7 → ClassS (txP P (paP P k))) : m_checkPool_84 fu k2 σ (nI k) (nI p) (nI (tgP P k)) = if ruleS P k = 0 then k2 σ (nI (k + 1)) else some (0, mwr σ (ruleS P k) p) := by
  have hl := tgP_lt P k
  unfold ok9 at h9
  unfold ruleS
  by_cases t1 : oneT (tgP P k)
  · rw [if_pos t1] at h9 ⊢
    rw [m_p84 hl (by omega), m_p150 hl (by omega)]
    unfold rl1
    rw [if_pos h9]
    by_cases t7 : tgP P k = 7
    · rw [if_pos t7, ci_t (h7 t7), if_pos rfl, m_p277 hl (by omega)]
    rw [if_neg t7]
    by_cases t16 : tgP P k = 16
    · obtain ⟨s, s1, s2, s3, s4⟩ := m_sym h g h9
      unfold m_checkPool_277 m_checkPool_299
      rw [if_neg (nL (k := 15) (by omega) (by omega) (by omega)), if_pos (show nI (tgP P k) = (16 : Int32) by rw [t16]; rfl), m_ix1 h g (Or.inl t1), Option.bind_some, s1, Option.bind_some, m_isMethod_ok s4 (by omega), Option.bind_some, m_p330 hl (by omega), if_pos t16]
      by_cases q : placesS (txP P (paP P k)) ≠ none
      · rw [ib_t q, ci_t q, if_pos rfl]
      · rw [ib_f q, ci_f q, if_neg (by decide)]
        exact m_w 14 rfl
    · rw [if_neg t16, if_pos rfl, m_p277 hl (by omega)]
  rw [if_neg t1] at h9 ⊢
  by_cases t12 : tgP P k = 12
  · rw [if_pos t12] at h9 ⊢
    obtain ⟨s, s1, s2, s3, s4⟩ := m_sym h g h9.1
    obtain ⟨d, d1, d2, d3, d4⟩ := m_sym h g h9.2
    have e1 : m_unqualified fu σ (nI s) (1 : Int32) = some (bi (PlainS (txP P (paP P k)) 0 (txP P (paP P k)).length False)) := by
      have := m_unqualified_ok (fu := fu) (om := 1) s4 (by omega)
      rw [show ((1 : Int32) = 0) = False from propext ⟨fun z => absurd z (by decide), fun z => z.elim⟩] at this
      exact this
    unfold m_checkPool_84 rl12 m_checkPool_142
    rw [if_pos (show nI (tgP P k) = (12 : Int32) by rw [t12]; rfl), m_ix1 h g (Or.inr (by omega)), Option.bind_some, s1, Option.bind_some, e1, Option.bind_some, m_p150 hl (by omega), m_p277 hl (by omega), if_pos h9]
    simp only [m_ix3 h g (show twoT (tgP P k) by omega), Option.bind_some, d1, m_isField_ok d4 (show 65536 < fu by omega), m_isMethod_ok d4 (show 65536 < fu by omega)]
    by_cases q1 : PlainS (txP P (paP P k)) 0 (txP P (paP P k)).length False
    case neg =>
      rw [ib_f q1, ci_f (fun w => q1 w.1), if_neg (by decide)]
      exact m_w 11 rfl
    by_cases q2 : FieldS (txP P (pbP P k))
    · rw [ib_t q1, ib_t q2, ci_t ⟨q1, Or.inl q2⟩, if_pos rfl]
    by_cases q3 : placesS (txP P (pbP P k)) ≠ none
    · rw [ib_t q1, ib_f q2, ib_t q3, ci_t ⟨q1, Or.inr q3⟩, if_pos rfl]
    · rw [ib_t q1, ib_f q2, ib_f q3, ci_f (fun w => w.2.elim q2 q3), if_neg (by decide)]
      exact m_w 11 rfl
  rw [if_neg t12] at h9 ⊢
  rw [m_p84 hl t12]
  by_cases t9 : 9 ≤ tgP P k ∧ tgP P k ≤ 11
  · rw [if_pos t9] at h9 ⊢
    obtain ⟨s, s1, s2, s3, s4, s5, s6⟩ := m_nm h g (by omega) h9.2
    obtain ⟨d, d1, d2, d3, d4, d5, d6⟩ := m_ty h g (by omega) h9.2
    have hi9 := h.2.1.i9 s4
    rw [s5] at hi9
    have e257 : m_checkPool_262 fu k2 σ (nI k) (nI p) (nI (tgP P k)) (1 : Int32) = k2 σ (nI (k + 1)) := by
      unfold m_checkPool_262
      rw [if_neg i10, m_p277 hl (by omega)]
    have e261 : m_checkPool_262 fu k2 σ (nI k) (nI p) (nI (tgP P k)) (0 : Int32) = some (0, mwr σ 12 p) := by
      unfold m_checkPool_262
      rw [if_pos rfl]
      exact m_w 12 rfl
    unfold m_checkPool_150 rl9 m_checkPool_257 m_checkPool_261
    rw [if_neg (show ¬ nI (tgP P k) < (9 : Int32) from nI_nlt (b := 9) t9.1 (by omega)), if_neg (show ¬ (11 : Int32) < nI (tgP P k) from nI_nlt (a := 11) t9.2 (by omega)), s1, Option.bind_some, s2, Option.bind_some, s3, Option.bind_some, Option.bind_some, d2, Option.bind_some, d3, Option.bind_some, m_angles_ok s6 (by omega), Option.bind_some, m_isField_ok d6 (by omega), Option.bind_some, m_isMethod_ok d6 (by omega), Option.bind_some, ci_t h9, e257, e261]
    by_cases n9 : tgP P k = 9
    · rw [if_pos (show nI (tgP P k) = (9 : Int32) by rw [n9]; rfl), if_pos n9]
      by_cases q : FieldS (tyP P k)
      · rw [bi_t q, e257, ci_t q, if_pos rfl]
      · rw [bi_f q, e261, ci_f q, if_neg (by decide)]
    rw [if_neg (nL (k := 9) (by omega) (by omega) n9), if_neg n9]
    by_cases q1 : placesS (tyP P k) ≠ none
    case neg => rw [ib_f q1, ci_f (fun w => q1 w.1), if_neg (by decide)]
    have hlen : 3 ≤ (tyP P k).length := by
      cases hp : placesS (tyP P k) with
      | none => exact absurd hp q1
      | some k => exact (placesS_le hp).2
    rw [ib_t q1]
    by_cases qa : AnglesS (nmP P k)
    case neg => rw [ib_f qa, ci_t ⟨q1, Or.inr qa⟩, if_pos rfl]
    rw [ib_t qa]
    by_cases n10 : tgP P k = 10
    case neg => rw [if_neg (nL (k := 10) (by omega) (by omega) n10), ci_f (fun w => w.2.elim (fun z => n10 z.1) (fun z => z qa)), if_neg (by decide)]
    rw [if_pos (show nI (tgP P k) = (10 : Int32) by rw [n10]; rfl)]
    by_cases qi : nmP P k = lT 10
    case neg => rw [if_neg (fun w => qi (hi9.mp w)), ci_f (fun w => w.2.elim (fun z => qi z.2.1) (fun z => z qa)), if_neg (by decide)]
    rw [if_pos (hi9.mpr qi), m_endsV_ok d6 (by omega), Option.bind_some]
    by_cases qv : ch (tyP P k) ((tyP P k).length - 1) = 86
    · rw [ib_t ⟨qv, placesS_V q1 qv⟩, ci_t ⟨q1, Or.inl ⟨n10, qi, qv⟩⟩, if_pos rfl]
    · rw [ib_f (fun w => qv w.1), ci_f (fun w => w.2.elim (fun z => qv z.2.2) (fun z => z qa)), if_neg (by decide)]
  rw [if_neg t9] at h9 ⊢
  rw [m_p150 hl (by omega)]
  by_cases t15 : tgP P k = 15
  · have h9' : ok9 P k := by
      unfold ok9
      rw [if_neg t1, if_neg t12, if_neg t9]
      exact h9
    rw [if_pos t15] at h9 ⊢
    unfold m_checkPool_277 rl15
    rw [if_pos (show nI (tgP P k) = (15 : Int32) by rw [t15]; rfl), m_handleEntry_ok h g t15 h9', Option.bind_some, if_neg h9.1, ci_f h9.2, m_p299 hl (by omega)]
    by_cases q : hdP P k
    · rw [ib_t q, ci_t q, if_pos rfl]
    · rw [ib_f q, ci_f q, if_neg (by decide)]
      exact m_w 13 rfl
  rw [if_neg t15] at h9 ⊢
  by_cases t17 : tgP P k = 17 ∨ tgP P k = 18
  · rw [if_pos t17] at h9 ⊢
    obtain ⟨s, s1, s2, s3, s4, s5, s6⟩ := m_nm h g (by omega) h9
    obtain ⟨d, d1, d2, d3, d4, d5, d6⟩ := m_ty h g (by omega) h9
    have e : ∀ o1 o2 : Option (Int32 × SM), (if nI (tgP P k) = (17 : Int32) then o1 else if nI (tgP P k) = (18 : Int32) then o1 else o2) = o1 := by
      intro o1 o2
      rcases t17 with z | z <;> rw [z] <;> rfl
    unfold m_checkPool_277 m_checkPool_299 m_checkPool_330 rl17
    rw [if_neg (nL (k := 15) (by omega) (by omega) t15), if_neg (nL (k := 16) (by omega) (by omega) (by omega)), e]
    unfold m_checkPool_342 m_checkPool_412 m_checkPool_420
    rw [s1, Option.bind_some, s2, Option.bind_some, s3, Option.bind_some, Option.bind_some, d2, Option.bind_some, d3, Option.bind_some, m_angles_ok s6 (by omega), Option.bind_some, m_isField_ok d6 (by omega), Option.bind_some, m_isMethod_ok d6 (by omega), Option.bind_some, ci_t h9, nx_eq, nI_1]
    by_cases qa : AnglesS (nmP P k)
    · rw [ib_t qa, ci_f (fun w => w.2 qa), if_neg (by decide)]
      exact m_w 14 rfl
    rw [ib_f qa]
    by_cases n17 : tgP P k = 17
    · rw [if_pos (show nI (tgP P k) = (17 : Int32) by rw [n17]; rfl), if_pos n17]
      by_cases q : FieldS (tyP P k)
      · rw [ib_t q, ci_t ⟨q, qa⟩, if_pos rfl]
      · rw [ib_f q, ci_f (fun w => q w.1), if_neg (by decide)]
        exact m_w 14 rfl
    · rw [if_neg (nL (k := 17) (by omega) (by omega) n17), if_neg n17]
      by_cases q : placesS (tyP P k) ≠ none
      · rw [ib_t q, ci_t ⟨q, qa⟩, if_pos rfl]
      · rw [ib_f q, ci_f (fun w => q w.1), if_neg (by decide)]
        exact m_w 14 rfl
  · rw [if_neg t17, if_pos rfl, m_p277 hl (by omega)]
theorem m_cp_step (h : mPo P N S σ) (g : PG P) (hfu : 131072 < fu) (hk : k < ctP P) : m_checkPool_2 fu k2 σ (nI k) = if ruleS P k = 0 then k2 σ (nI (k + 1)) else some (0, mwr σ (ruleS P k) (P.2.2.1 k)) := by
  have hc := ctP_lt P
  have hl := tgP_lt P k
  unfold m_checkPool_2
  obtain ⟨⟨a1, a2, a3, a4⟩, a5, a6⟩ := h
  have h' : mPo P N S σ := ⟨⟨a1, a2, a3, a4⟩, a5, a6⟩
  rw [a3, if_neg (nI_ge (by omega) (by omega)), a2, Int32.zero_add, nI_clamp (by omega), ckIn_n (by omega) (by omega), nx_eq, (a6 k hk).1]
  by_cases hA : P.2.2.1 k = 0
  · have t0 : tgP P k = 0 := by unfold tgP; rw [hA]; rfl
    rw [if_pos hA, if_neg (by decide), ruleS_0 t0, if_pos rfl]
    unfold m_checkPool_420
    rw [nx_eq, nI_1]
  have hg := g.2.2.2.2.1 k hA
  have hn := g.1
  have he : 0 < esz (U1 P.1 (P.2.2.1 k)) := by
    unfold esz
    repeat' split
    all_goals omega
  have hg2 := hg.2.1
  have ht : tgP P k = U1 P.1 (P.2.2.1 k) := if_neg hA
  rw [if_neg hA, if_pos (nI_pos' (by omega)), m_u1_ok a1 (by omega), Option.bind_some, ← ht, m_indexes_ok h' g, Option.bind_some]
  by_cases h9 : ok9 P k
  case neg =>
    rw [ib_f h9, ruleS_9 h9, if_neg (by decide)]
    exact m_w 9 rfl
  rw [ib_t h9]
  by_cases t7 : tgP P k = 7
  · have h91 : tgP P (paP P k) = 1 := by
      unfold ok9 at h9
      rw [if_pos (by omega)] at h9
      exact h9
    obtain ⟨s, s1, s2, s3, s4⟩ := m_sym h' g h91
    rw [if_pos (show nI (tgP P k) = (7 : Int32) by rw [t7]; rfl), m_ix1 h' g (by omega), Option.bind_some, s1, Option.bind_some, m_classText_ok s4 (by omega), Option.bind_some]
    by_cases q : ClassS (txP P (paP P k))
    · rw [ib_t q]
      exact m_cp84 h' g hfu h9 (fun _ => q)
    · have e : ruleS P k = 10 := by
        unfold ruleS rl1
        rw [if_pos (by omega), if_pos h91, if_pos t7, ci_f q]
      rw [ib_f q, e, if_neg (by decide)]
      exact m_w 10 rfl
  · rw [if_neg (nL (k := 7) (by omega) (by omega) t7)]
    exact m_cp84 h' g hfu h9 (fun w => absurd w t7)
end Steps
theorem m_cp_loop (h : mPo P N S σ) (g : PG P) (hfu : 131072 < fu) : ∀ d k f, k + d = ctP P → d < f → m_checkPool_2L fu f σ (nI k) = mE σ (cpS P d k) := by
  have hc := ctP_lt P
  intro d
  induction d with
  | zero =>
    intro k f hk hf
    obtain ⟨f, rfl⟩ : ∃ z9, f = z9 + 1 := ⟨f - 1, by omega⟩
    show m_checkPool_2 fu (m_checkPool_2L fu f) σ (nI k) = _
    unfold m_checkPool_2 cpS
    rw [h.1.2.2.1, if_pos (nI_le (by omega) (by omega))]
    rfl
  | succ d ih =>
    intro k f hk hf
    obtain ⟨f, rfl⟩ : ∃ z9, f = z9 + 1 := ⟨f - 1, by omega⟩
    show m_checkPool_2 fu (m_checkPool_2L fu f) σ (nI k) = _
    rw [m_cp_step h g hfu (by omega)]
    unfold cpS
    split
    · exact ih (k + 1) f (by omega) (by omega)
    · rfl
theorem m_checkPool_ok (h : mPo P N S σ) (g : PG P) (hfu : 131072 < fu) : m_checkPool fu σ = mE σ (cpS P (ctP P - 1) 1) := by
  have hc := ctP_lt P
  have h1 := g.2.2.2.2.2.2.2.2
  exact m_cp_loop h g hfu (ctP P - 1) 1 fu (by omega) (by omega)
end Rule5
