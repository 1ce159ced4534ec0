/-! questions about what is kept: member, find, row, bootstrap -/
section Qry3
set_option maxRecDepth 100000
variable {F : Nat → Int32} {n : Nat} {K : CR} {x0 c lo B fu : Nat} {N : Nat → Prop} {T : Nat → MR → GS → Prop} {σ : GS} {M : Nat} {S : Nat → List Nat} {τ : SM}
theorem nI_dv {a k : Nat} (ha : a < 2 ^ 31) (hk : 0 < k) (hk2 : k < 2 ^ 31) : nI a / nI k = nI (a / k) := by
  refine Int32.toInt_inj.mp ?_
  have e : ∀ j : Nat, j < 2 ^ 31 → (nI j).toInt = j := fun j hj => Int32.toInt_ofNat_of_lt hj
  have h1 : a / k < 2 ^ 31 := Nat.lt_of_le_of_lt (Nat.div_le_self _ _) ha
  rw [Int32.toInt_div, e a ha, e k hk2, e _ h1]
  rw [show ((a : Int).tdiv (k : Int)) = ((a / k : Nat) : Int) from (Int.ofNat_tdiv a k).symm]
  generalize a / k = q at *
  rw [Int.bmod_eq_of_le (by omega) (by omega)]
theorem q_member (hfu : 131072 < fu) (kf : KF F n K) (hx : xKc T F n K x0 c lo B N σ) (hm : mKc F n K M S τ) {w : Nat} (hw : w ≤ 9) (b v : Int32) : ∃ r, x_member σ x0 b v (nI w) = some r ∧ m_member fu τ b v (nI w) = some (r, sf τ 0 0) := by
  obtain ⟨k0, k5, hP, hH, hFs, hMs, hI⟩ := hx
  have hm0 := hm.t0 (v := 0)
  have nl := hm0.nl
  obtain ⟨-, -, pP, ⟨i54, i58, i61, i25, i26⟩, mF, mM, hV⟩ := hm0
  have kc := hP.1.1
  have nf := kf.2.2.2.2.1
  have nm := kf.2.2.2.2.2
  have w9 : nI w ≤ (9 : Int32) := nI_le (b := 9) hw (by omega)
  unfold x_member x_member_0 m_member m_member_0
  rw [nx_eq, if_neg (nn0 (by omega)), if_neg (nn0 (by omega)), if_pos w9, if_pos w9, ckT_ok k0, k5, if_neg snn, if_neg nl]
  rcases i32c v with h | ⟨i, hi, rfl⟩
  · exact ⟨-1, by rw [if_pos h], by rw [if_pos h]⟩
  rw [if_neg (nn0 hi), if_neg (nn0 hi), ckK_ok kc, ckK_ok kc, i25, i26]
  obtain ⟨ff, f1, f2, f3, f4⟩ := hFs
  obtain ⟨mm, ⟨m1, -⟩, m2, m3, m4⟩ := hMs
  have f3 : gn σ ff = U2 F K.1.2.2.2.1 := f3
  have m3 : gn σ mm = U2 F K.1.2.2.2.2.1 := m3
  rw [f1, m1, ckK_ok f2, ckK_ok m2, f3, m3]
  unfold x_member_53 m_member_47
  have cs : w = 0 ∨ w = 1 ∨ w = 2 ∨ w = 3 ∨ w = 4 ∨ w = 5 ∨ w = 6 ∨ w = 7 ∨ w = 8 ∨ w = 9 := by omega
  by_cases hb : b = 0
  · -- a field
    rw [if_pos hb, if_pos hb, if_pos hb, if_pos hb]
    by_cases hl : i < U2 F K.1.2.2.2.1
    case neg => exact ⟨-1, by rw [if_neg (nI_nlt (by omega) hi)], by rw [if_neg (nI_nlt (by omega) hi)]⟩
    obtain ⟨f, g1, g2, ⟨v1, v2, v3, v4, v5⟩, -, -⟩ := f4 i hl
    obtain ⟨⟨u1, u2, u3, u4, u5⟩, -, -⟩ := mF i hl
    rw [if_pos (nI_lt hl (by omega)), if_pos (nI_lt hl (by omega)), ckT_ok k0, k5, ckK_ok kc, f1, ckK_ok f2, f3, ckIn_n hl (by omega), nx_eq, nI_clamp (by omega), g1]
    simp only [if_pos hb, ckIn_n (show i < 8300 by omega) (show 8300 < 2 ^ 31 by omega), ckK_ok g2]
    rcases cs with rfl | rfl | rfl | rfl | rfl | rfl | rfl | rfl | rfl | rfl
    · exact ⟨_, congrArg some v1, congrArg (fun z => some (z, sf τ 0 0)) u1⟩
    · exact ⟨_, congrArg some v2, congrArg (fun z => some (z, sf τ 0 0)) u4⟩
    · exact ⟨_, congrArg some v3, congrArg (fun z => some (z, sf τ 0 0)) u5⟩
    · exact ⟨_, congrArg some v4, congrArg (fun z => some (z, sf τ 0 0)) u3⟩
    · exact ⟨_, congrArg some v5, congrArg (fun z => some (z, sf τ 0 0)) u2⟩
    · exact ⟨0, rfl, rfl⟩
    · exact ⟨0, rfl, rfl⟩
    · exact ⟨0, rfl, rfl⟩
    · exact ⟨0, rfl, rfl⟩
    · exact ⟨0, rfl, rfl⟩
  · -- a method
    rw [if_neg hb, if_neg hb, if_neg hb, if_neg hb]
    by_cases hl : i < U2 F K.1.2.2.2.2.1
    case neg => exact ⟨-1, by rw [if_neg (nI_nlt (by omega) hi)], by rw [if_neg (nI_nlt (by omega) hi)]⟩
    obtain ⟨f, ⟨g1, -⟩, ⟨⟨g2, -⟩, ⟨v1, v2, v3, v4, v5, v6⟩, vc, -, -⟩, -⟩ := m4 i hl
    obtain ⟨⟨u1, u2, u3, u4, u5⟩, -, ⟨s, s1, s2, s3⟩, uc⟩ := mM i hl
    obtain ⟨kp, kd, kcd⟩ := kf.2.2.1 i hl
    rw [if_pos (nI_lt hl (by omega)), if_pos (nI_lt hl (by omega)), ckT_ok k0, k5, ckK_ok kc, m1, ckK_ok m2, m3, ckIn_n hl (by omega), nx_eq, nI_clamp (by omega), g1]
    simp only [if_neg hb, ckIn_n (show i < 8300 by omega) (show 8300 < 2 ^ 31 by omega), ckK_ok g2]
    have ra : ∃ ra, gr σ f 12 = some ra ∧ gk σ ra = 100 ∧ (gn σ ra < 2 ^ 31 ∧ (sf τ 0 0).2 42 i = nI (gn σ ra / 4)) := by
      unfold xCo at vc
      by_cases z : (K.2.2.1 i).2 3 = 0
      · rw [if_pos z] at vc uc
        obtain ⟨-, -, -, ra, r1, r2, r3⟩ := vc
        exact ⟨ra, r1, r2, by rw [r3]; exact ⟨by omega, uc.2.2.2.2⟩⟩
      · rw [if_neg z] at vc uc
        obtain ⟨-, -, ra, r1, r2, r3, -⟩ := vc
        have r3 : gn σ ra = 4 * U2 F ((K.2.2.1 i).2 3 + 8 + U4 F ((K.2.2.1 i).2 3 + 4)) := r3
        have := U2_lt F ((K.2.2.1 i).2 3 + 8 + U4 F ((K.2.2.1 i).2 3 + 4))
        refine ⟨ra, r1, r2, by rw [r3]; omega, ?_⟩
        rw [r3, Nat.mul_div_cancel_left _ (by omega)]
        exact uc.2.2.2.2.2.2
    obtain ⟨ra, r1, r2, r3, r4⟩ := ra
    rcases cs with rfl | rfl | rfl | rfl | rfl | rfl | rfl | rfl | rfl | rfl
    · exact ⟨_, congrArg some v1, congrArg (fun z => some (z, sf τ 0 0)) u1⟩
    · exact ⟨_, congrArg some v2, congrArg (fun z => some (z, sf τ 0 0)) u4⟩
    · exact ⟨_, congrArg some v3, congrArg (fun z => some (z, sf τ 0 0)) u5⟩
    · exact ⟨_, congrArg some v4, congrArg (fun z => some (z, sf τ 0 0)) u2⟩
    · unfold xCo at vc
      by_cases z : (K.2.2.1 i).2 3 = 0
      · rw [if_pos z] at vc uc
        refine ⟨0, ?_, congrArg (fun z => some (z, sf τ 0 0)) uc.2.1⟩
        show (if gi σ f 10 = 0 then some (0 : Int32) else _) = _
        rw [if_pos vc.1]
      · rw [if_neg z] at vc uc
        obtain ⟨⟨c1, -, -⟩, ⟨ca, ⟨c2, -⟩, c3, c4, -⟩, -⟩ := vc
        refine ⟨nI (U4 F ((K.2.2.1 i).2 3 + 4)), ?_, congrArg (fun z => some (z, sf τ 0 0)) uc.2.2.1⟩
        show (if gi σ f 10 = 0 then some (0 : Int32) else ckK σ 101 (gr σ f 11) fun a33 => some (nI (gn σ a33))) = _
        rw [c1, if_neg i10, c2, ckK_ok c3, c4]
    · unfold xCo at vc
      by_cases z : (K.2.2.1 i).2 3 = 0
      · rw [if_pos z] at vc uc
        exact ⟨0, congrArg some vc.2.1, congrArg (fun z => some (z, sf τ 0 0)) uc.2.2.1⟩
      · rw [if_neg z] at vc uc
        exact ⟨_, congrArg some vc.1.2.1, congrArg (fun z => some (z, sf τ 0 0)) uc.2.2.2.1⟩
    · unfold xCo at vc
      by_cases z : (K.2.2.1 i).2 3 = 0
      · rw [if_pos z] at vc uc
        exact ⟨0, congrArg some vc.2.2.1, congrArg (fun z => some (z, sf τ 0 0)) uc.2.2.2.1⟩
      · rw [if_neg z] at vc uc
        exact ⟨_, congrArg some vc.1.2.2, congrArg (fun z => some (z, sf τ 0 0)) uc.2.2.2.2.1⟩
    · refine ⟨nI (gn σ ra / 4), ?_, congrArg (fun z => some (z, sf τ 0 0)) r4⟩
      show (ckK σ 100 (gr σ f 12) fun a48 => ckD (4 : Int32) (some ((nI (gn σ a48)) / (4 : Int32)))) = _
      rw [r1, ckK_ok r2, ckD_ok (by decide), show nI (gn σ ra) / (4 : Int32) = nI (gn σ ra / 4) from nI_dv (k := 4) r3 (by omega) (by omega)]
    · refine ⟨nI (npS (n4 (pK F n K) (K.2.2.1 i).1) (U2 F (K.2.2.1 i).1)), congrArg some v6, ?_⟩
      obtain ⟨cc, hcc⟩ : ∃ cc, placesS (n4 (pK F n K) (K.2.2.1 i).1) = some cc := by
        cases hz : placesS (n4 (pK F n K) (K.2.2.1 i).1) with
        | none => exact absurd hz kd.2.1
        | some cc => exact ⟨cc, rfl⟩
      have hW : mW (n4 (pK F n K) (K.2.2.1 i).1) (nI s) (sf τ 0 0) := by
        rw [← show S s = n4 (pK F n K) (K.2.2.1 i).1 from s3]
        exact pP.2.1.1.mW s1
      show ((m_places0 fu (sf τ 0 0) ((sf τ 0 0).2 36 i)).bind fun r29 => if (((sf τ 0 0).2 34 i) &&& (8 : Int32)) = 0 then m_member_271 fu (sf τ 0 0) (1 : Int32) r29 else m_member_271 fu (sf τ 0 0) (0 : Int32) r29) = _
      have u1 : (sf τ 0 0).2 34 i = nI (U2 F (K.2.2.1 i).1) := u1
      rw [s2, m_places0_ok hW (by omega) hcc, Option.bind_some, u1]
      unfold m_member_271 npS
      rw [hcc]
      by_cases z : (nI (U2 F (K.2.2.1 i).1) &&& (8 : Int32)) = 0
      · rw [if_pos z, if_pos z]
        exact congrArg (fun z => some (z, sf τ 0 0)) (nI_1 cc)
      · rw [if_neg z, if_neg z]
        exact congrArg (fun z => some (z, sf τ 0 0)) (nI_add cc 0)
    · exact ⟨_, congrArg some v5, congrArg (fun z => some (z, sf τ 0 0)) u3⟩
/-- the first member of a name and descriptor -/
noncomputable def fnS (P : PD) (R : Nat → MR) (a b : List Nat) : Nat → Nat → Int32
  | 0, _ => -1
  | d + 1, k => ci (n2 P (R k).1 = a ∧ n4 P (R k).1 = b) (nI k) (fnS P R a b d (k + 1))
theorem x_fn {b : Int32} {P : PD} {R : Nat → MR} {nn s t : Nat} {u w : List Nat} (hfu : 131072 < fu) (k0 : gk σ x0 = 1) (hs : sS u s σ) (ht : sS w t σ) (hnn : nn < 8300)
    (st : ∀ k, k < nn → ∃ s' t', (∀ k54, x_find_54 fu σ k54 x0 b (some s) (some t) (nI nn) (nI k) = x_find_129 fu σ k54 x0 b (some s) (some t) (nI nn) (nI k) (some s') (some t')) ∧ sS (n2 P (R k).1) s' σ ∧ sS (n4 P (R k).1) t' σ) : ∀ d k f, k + d = nn → d < f → x_find_54L fu σ f x0 b (some s) (some t) (nI nn) (nI k) = some (fnS P R u w d k) := by
  intro d
  induction d with
  | zero =>
    intro k f hk hf
    obtain ⟨f, rfl⟩ : ∃ z9, f = z9 + 1 := ⟨f - 1, by omega⟩
    show x_find_54 fu σ (x_find_54L fu σ f) x0 b (some s) (some t) (nI nn) (nI k) = _
    unfold x_find_54
    rw [if_pos (nI_le (by omega) (by omega))]
    rfl
  | succ d ih =>
    intro k f hk hf
    obtain ⟨f, rfl⟩ : ∃ z9, f = z9 + 1 := ⟨f - 1, by omega⟩
    obtain ⟨s', t', e, h1, h2⟩ := st k (by omega)
    show x_find_54 fu σ (x_find_54L fu σ f) x0 b (some s) (some t) (nI nn) (nI k) = _
    rw [e]
    unfold x_find_129 x_find_154 fnS
    rw [ckK_ok h1.1, ckR_ok, x_equals_ok h1 hs hfu, Option.bind_some, ckK_ok h2.1, ckR_ok, x_equals_ok h2 ht hfu, Option.bind_some, nx_eq, nI_1, ih (k + 1) f (by omega) (by omega)]
    by_cases q1 : n2 P (R k).1 = u
    · rw [ib_t q1]
      by_cases q2 : n4 P (R k).1 = w
      · rw [ib_t q2, ci_t ⟨q1, q2⟩]
      · rw [ib_f q2, ci_f (fun z => q2 z.2)]
    · rw [ib_f q1, ci_f (fun z => q1 z.1)]
theorem m_fn {b : Int32} {P : PD} {R : Nat → MR} {nn s t : Nat} {u w : List Nat} (hp : mPo P M S τ) (hs : s < M ∧ S s = u) (ht : t < M ∧ S t = w) (hnn : nn < 8300)
    (e0 : ∀ k49 x6, m_find_49 fu k49 τ b (nI s) (nI t) x6 = m_find_66 fu k49 τ b (nI s) (nI t) x6 (nI nn) x6)
    (st : ∀ k, k < nn → ∃ s' t', (∀ k49, m_find_66 fu k49 τ b (nI s) (nI t) (nI k) (nI nn) (nI k) = if nI s' = nI s then m_find_116 fu k49 τ b (nI s) (nI t) (nI k) (nI t') else m_find_124 fu k49 τ b (nI s) (nI t) (nI k)) ∧ (s' < M ∧ S s' = n2 P (R k).1) ∧ (t' < M ∧ S t' = n4 P (R k).1)) : ∀ d k f, k + d = nn → d < f → m_find_49L fu f τ b (nI s) (nI t) (nI k) = some (fnS P R u w d k, τ) := by
  intro d
  induction d with
  | zero =>
    intro k f hk hf
    obtain ⟨f, rfl⟩ : ∃ z9, f = z9 + 1 := ⟨f - 1, by omega⟩
    show m_find_49 fu (m_find_49L fu f) τ b (nI s) (nI t) (nI k) = _
    rw [e0]
    unfold m_find_66
    rw [if_pos (nI_le (by omega) (by omega))]
    rfl
  | succ d ih =>
    intro k f hk hf
    obtain ⟨f, rfl⟩ : ∃ z9, f = z9 + 1 := ⟨f - 1, by omega⟩
    obtain ⟨s', t', e, h1, h2⟩ := st k (by omega)
    show m_find_49 fu (m_find_49L fu f) τ b (nI s) (nI t) (nI k) = _
    rw [e0, e]
    have i1 := hp.2.1.inj h1.1 hs.1
    have i2 := hp.2.1.inj h2.1 ht.1
    rw [h1.2, hs.2] at i1
    rw [h2.2, ht.2] at i2
    unfold m_find_116 m_find_124 fnS
    rw [nx_eq, nI_1, ih (k + 1) f (by omega) (by omega)]
    by_cases q1 : n2 P (R k).1 = u
    · rw [if_pos (i1.mpr q1)]
      by_cases q2 : n4 P (R k).1 = w
      · rw [if_pos (i2.mpr q2), ci_t ⟨q1, q2⟩]
      · rw [if_neg (fun z => q2 (i2.mp z)), ci_f (fun z => q2 z.2)]
    · rw [if_neg (fun z => q1 (i1.mp z)), ci_f (fun z => q1 z.1)]
theorem q_find (hfu : 131072 < fu) (kf : KF F n K) (hx : xKc T F n K x0 c lo B N σ) (hm : mKc F n K M S τ) (b v u : Int32) : ∃ r, x_find fu σ x0 b v u = some r ∧ m_find fu τ b v u = some (r, sf τ 0 0) := by
  have tv := x_textOf_ok kf.1 hx v
  have tu := x_textOf_ok kf.1 hx u
  obtain ⟨k0, k5, hP, hH, hFs, hMs, hI⟩ := hx
  have hm0 := hm.t0 (v := 0)
  have nl := hm0.nl
  obtain ⟨-, -, pP, ⟨i54, i58, i61, i25, i26⟩, mF, mM, hV⟩ := hm0
  have pP : mPo (pK F n K) M S (sf τ 0 0) := pP
  have hPG : PG (pK F n K) := kf.1.1
  have kc := hP.1.1
  have nf := kf.2.2.2.2.1
  have nm := kf.2.2.2.2.2
  have hc := ctP_lt (pK F n K)
  unfold x_find x_find_0 m_find m_find_0
  rw [nx_eq, ckT_ok k0, if_neg nl]
  rcases tv with ⟨k, s, hk, rfl, ht, e, s2, s3, s4⟩ | ⟨hv, e⟩
  case inr =>
    obtain ⟨t, t1, t2⟩ := m_noText pP hPG hv
    rcases tu with ⟨k', s', hk', rfl, ht', e', -⟩ | ⟨hv', e'⟩
    · exact ⟨-1, by rw [e, e']; rfl, by rw [t1, Option.bind_some, if_neg t2]⟩
    · exact ⟨-1, by rw [e, e']; rfl, by rw [t1, Option.bind_some, if_neg t2]⟩
  obtain ⟨y, y1, y2, y3, y4⟩ := m_sym pP hPG ht
  rw [e, Option.bind_some, m_tag_ok pP hPG (by omega), Option.bind_some, if_pos (show nI (tgP (pK F n K) k) = (1 : Int32) by rw [ht]; rfl), y1, Option.bind_some]
  rcases tu with ⟨k', s', hk', rfl, ht', e', s2', s3', s4'⟩ | ⟨hv', e'⟩
  case inr =>
    obtain ⟨t, t1, t2⟩ := m_noText pP hPG hv'
    exact ⟨-1, by rw [e']; rfl, by rw [t1, Option.bind_some, if_neg t2]⟩
  obtain ⟨y', y1', y2', y3', y4'⟩ := m_sym pP hPG ht'
  rw [e', Option.bind_some, if_neg snn, if_neg snn, m_tag_ok pP hPG (by omega), Option.bind_some, if_pos (show nI (tgP (pK F n K) k') = (1 : Int32) by rw [ht']; rfl), y1', Option.bind_some, k5, ckK_ok kc, ckK_ok kc]
  obtain ⟨ff, f1, f2, f3, f4⟩ := hFs
  obtain ⟨mm, ⟨m1, -⟩, m2, m3, m4⟩ := hMs
  have f3 : gn σ ff = U2 F K.1.2.2.2.1 := f3
  have m3 : gn σ mm = U2 F K.1.2.2.2.2.1 := m3
  unfold x_find_49
  rw [f1, m1, ckK_ok f2, ckK_ok m2, f3, m3]
  by_cases hb : b = 0
  · rw [if_pos hb]
    refine ⟨fnS (pK F n K) K.2.1 (txP (pK F n K) k) (txP (pK F n K) k') (U2 F K.1.2.2.2.1) 0, ?_, ?_⟩
    · refine x_fn (nn := U2 F K.1.2.2.2.1) hfu k0 s2 s2' nf (fun j hj => ?_) _ 0 fu (by omega) (by omega)
      obtain ⟨f, g1, g2, -, ⟨a, a1, a2, -⟩, ⟨a', a1', a2', -⟩⟩ := f4 j hj
      refine ⟨a, a', fun k54 => ?_, a2, a2'⟩
      unfold x_find_54 x_find_94
      rw [if_neg (nI_ge hj (by omega)), if_pos hb, ckT_ok k0, k5, ckK_ok kc, f1, ckK_ok f2, f3, ckIn_n hj (by omega), nI_clamp (by omega), g1, ckK_ok g2, if_pos hb, ckT_ok k0, ckK_ok kc, f1, ckK_ok f2, f3, ckIn_n hj (by omega), g1, ckK_ok g2, a1, a1']
    · refine m_fn (nn := U2 F K.1.2.2.2.1) pP ⟨y2, y3⟩ ⟨y2', y3'⟩ nf (fun k49 x6 => ?_) (fun j hj => ?_) _ 0 fu (by omega) (by omega)
      · unfold m_find_49
        rw [if_pos hb, i25]
      · obtain ⟨-, ⟨a, a1, a2, a3⟩, ⟨a', a1', a2', a3'⟩⟩ := mF j hj
        refine ⟨a, a', fun k49 => ?_, ⟨a1, a3⟩, ⟨a1', a3'⟩⟩
        unfold m_find_66 m_find_90
        rw [if_neg (nI_ge hj (by omega)), if_pos hb, ckIn_n (by omega) (by omega), nI_clamp (by omega), a2, if_pos hb, ckIn_n (by omega) (by omega), a2']
  · rw [if_neg hb]
    refine ⟨fnS (pK F n K) K.2.2.1 (txP (pK F n K) k) (txP (pK F n K) k') (U2 F K.1.2.2.2.2.1) 0, ?_, ?_⟩
    · refine x_fn (nn := U2 F K.1.2.2.2.2.1) hfu k0 s2 s2' nm (fun j hj => ?_) _ 0 fu (by omega) (by omega)
      obtain ⟨f, ⟨g1, -⟩, ⟨⟨g2, -⟩, -, -, ⟨a, a1, a2, -⟩, ⟨a', a1', a2', -⟩⟩, -⟩ := m4 j hj
      refine ⟨a, a', fun k54 => ?_, a2, a2'⟩
      unfold x_find_54 x_find_94
      rw [if_neg (nI_ge hj (by omega)), if_neg hb, ckT_ok k0, k5, ckK_ok kc, m1, ckK_ok m2, m3, ckIn_n hj (by omega), nI_clamp (by omega), g1, ckK_ok g2, if_neg hb, ckT_ok k0, ckK_ok kc, m1, ckK_ok m2, m3, ckIn_n hj (by omega), g1, ckK_ok g2, a1, a1']
    · refine m_fn (nn := U2 F K.1.2.2.2.2.1) pP ⟨y2, y3⟩ ⟨y2', y3'⟩ nm (fun k49 x6 => ?_) (fun j hj => ?_) _ 0 fu (by omega) (by omega)
      · unfold m_find_49
        rw [if_neg hb, i26]
      · obtain ⟨-, ⟨a, a1, a2, a3⟩, ⟨a', a1', a2', a3'⟩, -⟩ := mM j hj
        refine ⟨a, a', fun k49 => ?_, ⟨a1, a3⟩, ⟨a1', a3'⟩⟩
        unfold m_find_66 m_find_90
        rw [if_neg (nI_ge hj (by omega)), if_neg hb, ckIn_n (by omega) (by omega), nI_clamp (by omega), a2, if_neg hb, ckIn_n (by omega) (by omega), a2']
/-- a method of the component by its number -/
theorem x_methodAt_ok (hx : xKc T F n K x0 c lo B N σ) (hl : U2 F K.1.2.2.2.2.1 < 8300) (v : Int32) : (∃ i f, i < U2 F K.1.2.2.2.2.1 ∧ v = nI i ∧ x_methodAt σ x0 v = some (some f) ∧ xMt (pK F n K) N c f (K.2.2.1 i) σ ∧ T f (K.2.2.1 i) σ) ∨ ((∀ i, i < U2 F K.1.2.2.2.2.1 → ¬ v = nI i) ∧ x_methodAt σ x0 v = some none) := by
  obtain ⟨k0, k5, hP, hH, hFs, hMs, hI⟩ := hx
  have kc := hP.1.1
  obtain ⟨mm, ⟨m1, -⟩, m2, m3, m4⟩ := hMs
  have m3 : gn σ mm = U2 F K.1.2.2.2.2.1 := m3
  unfold x_methodAt x_methodAt_0 x_methodAt_23
  rw [ckT_ok k0, k5, if_neg snn]
  rcases i32c v with h | ⟨i, hi, rfl⟩
  · exact Or.inr ⟨fun i z1 z2 => by rw [z2] at h; exact nn0 (by omega) h, by rw [if_pos h]⟩
  rw [if_neg (nn0 hi), ckK_ok kc, m1, ckK_ok m2, m3]
  by_cases hl2 : i < U2 F K.1.2.2.2.2.1
  · obtain ⟨f, ⟨g1, -⟩, g2, g3⟩ := m4 i hl2
    exact Or.inl ⟨i, f, hl2, rfl, by rw [if_pos (nI_lt hl2 (by omega)), ckIn_n hl2 (by omega), nI_clamp (by omega), g1], g2, g3⟩
  · exact Or.inr ⟨fun j z1 z2 => by have := (nI_eq (by omega) (by omega)).mp z2; omega, by rw [if_neg (nI_nlt (by omega) hi)]⟩
theorem q_row (kf : KF F n K) (hx : xKc T F n K x0 c lo B N σ) (hm : mKc F n K M S τ) {w : Nat} (hw : w ≤ 3) (v u : Int32) : ∃ r, x_row σ x0 v u (nI w) = some r ∧ m_row τ v u (nI w) = some (r, sf τ 0 0) := by
  have hA := x_methodAt_ok hx kf.2.2.2.2.2 v
  have k0 := hx.1
  have hm0 := hm.t0 (v := 0)
  have nl := hm0.nl
  obtain ⟨-, hn, pP, ⟨i54, i58, i61, i25, i26⟩, mF, mM, hV⟩ := hm0
  have nm := kf.2.2.2.2.2
  have w3 : nI w ≤ (3 : Int32) := nI_le (b := 3) hw (by omega)
  unfold x_row x_row_0 x_row_45 m_row m_row_0
  rw [nx_eq, if_neg (nn0 (by omega)), if_neg (nn0 (by omega)), if_pos w3, if_pos w3, ckT_ok k0, if_neg nl, i26]
  rcases hA with ⟨i, f, hi, rfl, e, hM, -⟩ | ⟨hv, e⟩
  case inr =>
    refine ⟨-1, by rw [e]; rfl, ?_⟩
    rcases i32c v with h | ⟨i, hi, rfl⟩
    · rw [if_pos h]
    · rw [if_neg (nn0 hi), if_pos (nI_le (Nat.le_of_not_lt fun z => hv i z rfl) hi)]
  obtain ⟨⟨g2, -⟩, -, vc, -, -⟩ := hM
  obtain ⟨-, -, -, uc⟩ := mM i hi
  obtain ⟨kp, kd, kcd⟩ := kf.2.2.1 i hi
  rw [e, Option.bind_some, if_neg snn, if_neg (nn0 (by omega)), if_neg (nI_ge hi (by omega)), ckIn_n (by omega) (by omega), ckIn_n (by omega) (by omega), ckIn_n (by omega) (by omega), nI_clamp (by omega), ckK_ok g2]
  unfold xCo at vc
  by_cases z : (K.2.2.1 i).2 3 = 0
  · rw [if_pos z] at vc uc
    obtain ⟨-, -, -, ra, r1, r2, r3⟩ := vc
    refine ⟨-1, ?_, by rw [uc.1, if_pos (by decide)]⟩
    rw [r1, ckK_ok r2, r3, ckD_ok (by decide)]
    rcases i32c u with h | ⟨j, hj, rfl⟩
    · rw [if_pos h]
    · rw [if_neg (nn0 hj), if_neg (show ¬ nI j < nI 0 / (4 : Int32) from fun y => nn0 hj y)]
  · rw [if_neg z] at vc uc
    obtain ⟨-, -, ra, r1, r2, r3, r4⟩ := vc
    obtain ⟨u0, u1, u2, u3, u4, u5, u6⟩ := uc
    have kcd := kcd.resolve_left z
    have r3 : gn σ ra = 4 * U2 F ((K.2.2.1 i).2 3 + 8 + U4 F ((K.2.2.1 i).2 3 + 4)) := r3
    have u5 : (sf τ 0 0).2 41 i = nI ((K.2.2.1 i).2 3 + 8 + U4 F ((K.2.2.1 i).2 3 + 4) + 2) := u5
    have u6 : (sf τ 0 0).2 42 i = nI (U2 F ((K.2.2.1 i).2 3 + 8 + U4 F ((K.2.2.1 i).2 3 + 4))) := u6
    have kb : (K.2.2.1 i).2 3 + 8 + U4 F ((K.2.2.1 i).2 3 + 4) + 2 + 8 * U2 F ((K.2.2.1 i).2 3 + 8 + U4 F ((K.2.2.1 i).2 3 + 4)) + 2 ≤ n := kcd.2.1
    have r4 : ∀ k, k < U2 F ((K.2.2.1 i).2 3 + 8 + U4 F ((K.2.2.1 i).2 3 + 4)) → ∀ j, j < 4 → gi σ ra (4 * k + j) = nI (U2 F ((K.2.2.1 i).2 3 + 8 + U4 F ((K.2.2.1 i).2 3 + 4) + 2 + 8 * k + 2 * j)) := r4
    generalize (K.2.2.1 i).2 3 + 8 + U4 F ((K.2.2.1 i).2 3 + 4) = q at *
    have ur := U2_lt F q
    rw [u1, if_neg (nn0 (by omega)), r1, ckK_ok r2, r3, ckD_ok (by decide), show nI (4 * U2 F q) / (4 : Int32) = nI (4 * U2 F q / 4) from nI_dv (k := 4) (by omega) (by omega) (by omega), Nat.mul_div_cancel_left _ (by omega), u5, u6]
    rcases i32c u with h | ⟨j, hj, rfl⟩
    · exact ⟨-1, by rw [if_pos h], by rw [if_pos h]⟩
    rw [if_neg (nn0 hj), if_neg (nn0 hj)]
    by_cases y : j < U2 F q
    · refine ⟨nI (U2 F (q + 2 + 8 * j + 2 * w)), ?_, ?_⟩
      · rw [if_pos (nI_lt y (by omega)), show (4 : Int32) * nI j = nI (4 * j) from pk_mul 4 _, nI_add, ckIn_n (by omega) (by omega), nI_clamp (by omega), r4 j y w (by omega)]
      · rw [if_pos (nI_lt y (by omega)), show (8 : Int32) * nI j = nI (8 * j) from pk_mul 8 _, show (2 : Int32) * nI w = nI (2 * w) from pk_mul 2 _, nI_add, nI_add, m_u2_ok (F := F) (n := n) pP.1.1 (by omega), Option.bind_some]
    · exact ⟨-1, by rw [if_neg (nI_nlt (by omega) hj)], by rw [if_neg (nI_nlt (by omega) hj)]⟩
theorem bs_in {e p : Nat} : ∀ d k, bsL F e d (bqS F p k) = some e → ∀ i, k ≤ i → i < k + d → bqS F p i + 4 + 2 * U2 F (bqS F p i + 2) ≤ e := by
  intro d
  induction d with
  | zero => intro k _ i h1 h2; omega
  | succ d ih =>
    intro k h i h1 h2
    obtain ⟨g1, g2⟩ := bsL_su h
    rcases Nat.lt_or_ge k i with z | z
    · exact ih (k + 1) g2 i z (by omega)
    · rw [show i = k by omega]
      exact g1
theorem m_boo {P : PD} {p i e u cnt : Nat} (h : mPo P M S τ) (g : PG P) (he : e ≤ P.2.1) (hb : ∀ k, k < cnt → bqS P.1 p k + 4 + 2 * U2 P.1 (bqS P.1 p k + 2) ≤ e) (hi : i < cnt) (hcn : cnt < 65536) (hu : u < 2 ^ 31) : ∀ d k f, k + d = i → d < f → m_bootstrap_40L fu f τ (nI i) (nI u) (nI (bqS P.1 p k)) (nI k) = some (if u = 0 then nI (U2 P.1 (bqS P.1 p i)) else if u ≤ U2 P.1 (bqS P.1 p i + 2) then nI (U2 P.1 (bqS P.1 p i + 2 + 2 * u)) else -1, τ) := by
  have hn := g.1
  intro d
  induction d with
  | zero =>
    intro k f hk hf
    obtain ⟨f, rfl⟩ : ∃ z9, f = z9 + 1 := ⟨f - 1, by omega⟩
    obtain rfl : k = i := by omega
    have hk2 := hb k hi
    have ua := U2_lt P.1 (bqS P.1 p k + 2)
    show m_bootstrap_40 fu (m_bootstrap_40L fu f) τ (nI k) (nI u) (nI (bqS P.1 p k)) (nI k) = _
    unfold m_bootstrap_40
    rw [if_pos (nI_le (by omega) (by omega)), m_u2_ok h.1.1 (by omega), Option.bind_some, nI_2, m_u2_ok h.1.1 (by omega), Option.bind_some]
    by_cases z : u = 0
    · rw [if_pos (show nI u = 0 by rw [z]; rfl), if_pos z]
    rw [if_neg (nL (k := 0) (by omega) (by omega) z), if_neg z]
    by_cases y : u ≤ U2 P.1 (bqS P.1 p k + 2)
    · rw [if_pos (nI_le y (by omega)), if_pos y, show (2 : Int32) * nI u = nI (2 * u) from pk_mul 2 _, nI_add, m_u2_ok h.1.1 (by omega), Option.bind_some]
    · rw [if_neg (nI_ge (by omega) (by omega)), if_neg y]
  | succ d ih =>
    intro k f hk hf
    obtain ⟨f, rfl⟩ : ∃ z9, f = z9 + 1 := ⟨f - 1, by omega⟩
    have hk2 := hb k (by omega)
    show m_bootstrap_40 fu (m_bootstrap_40L fu f) τ (nI i) (nI u) (nI (bqS P.1 p k)) (nI k) = _
    unfold m_bootstrap_40
    rw [if_neg (nI_ge (by omega) (by omega)), nI_2, m_u2_ok h.1.1 (by omega), Option.bind_some, nx_eq, nx_eq, nI_1, show (2 : Int32) * nI (U2 P.1 (bqS P.1 p k + 2)) = nI (2 * U2 P.1 (bqS P.1 p k + 2)) from pk_mul 2 _, nI_add' 4, nI_add, show bqS P.1 p k + (4 + 2 * U2 P.1 (bqS P.1 p k + 2)) = bqS P.1 p (k + 1) by show _ = bqS P.1 p k + 4 + 2 * U2 P.1 (bqS P.1 p k + 2); omega]
    exact ih (k + 1) f (by omega) (by omega)
theorem q_bootstrap (hfu : 131072 < fu) (kf : KF F n K) (hx : xKc T F n K x0 c lo B N σ) (hm : mKc F n K M S τ) (v u : Int32) : ∃ r, x_bootstrap σ x0 v u = some r ∧ m_bootstrap fu τ v u = some (r, sf τ 0 0) := by
  obtain ⟨k0, k5, hP, hH, hFs, hMs, hI⟩ := hx
  have hm0 := hm.t0 (v := 0)
  have nl := hm0.nl
  obtain ⟨-, hn, pP, ⟨i54, i58, i61, i25, i26⟩, mF, mM, hV⟩ := hm0
  have kc := hP.1.1
  unfold x_bootstrap x_bootstrap_0 m_bootstrap m_bootstrap_0
  rw [nx_eq, ckT_ok k0, k5, if_neg snn, if_neg nl]
  rcases i32c v with h | ⟨i, hi, rfl⟩
  · exact ⟨-1, by rw [if_pos h], by rw [if_pos h]⟩
  rw [if_neg (nn0 hi), if_neg (nn0 hi), ckK_ok kc]
  have hBo := hI.2.2
  have hV6 := hV.2.2.2.2.2
  unfold xBoo at hBo
  by_cases z : K.2.2.2 8 = 0
  · rw [if_pos z] at hBo hV6
    obtain ⟨ba, b1, b2, b3⟩ := hBo
    exact ⟨-1, by rw [b1, ckK_ok b2, b3, if_pos (show nI 0 ≤ nI i from nI_le (by omega) hi)], by rw [hV6.2, if_pos (show (0 : Int32) ≤ nI i from nI_pos' hi)]⟩
  rw [if_neg z] at hBo hV6
  obtain ⟨ba, b1, b2, b3, b4⟩ := hBo
  obtain ⟨e, e1, e2, e3⟩ := kf.2.2.2.1.resolve_left z
  have e1 : e ≤ n := e1
  have uc := U2_lt F (K.2.2.2 8)
  have bi := bs_in (F := F) (p := K.2.2.2 8) (U2 F (K.2.2.2 8)) 0 e3
  rw [b1, ckK_ok b2, b3, hV6.1, hV6.2, nI_2]
  by_cases y : i < U2 F (K.2.2.2 8)
  case neg => exact ⟨-1, by rw [if_pos (nI_le (by omega) hi)], by rw [if_pos (nI_le (by omega) hi)]⟩
  rw [if_neg (nI_ge y (by omega)), if_neg (nI_ge y (by omega))]
  rcases i32c u with h | ⟨j, hj, rfl⟩
  · exact ⟨-1, by rw [if_pos h], by rw [if_neg (fun w => Int32.not_le.mpr h w)]⟩
  have hPG : PG (pK F n K) := kf.1.1
  rw [if_neg (nn0 hj), if_pos (show (0 : Int32) ≤ nI j from nI_pos' hj), nx_eq, ckIn_n y (by omega), nI_clamp (by omega)]
  obtain ⟨r, r1, r2, r3, r4, r5⟩ := b4 i y
  have hb2 := bi i (by omega) (by omega)
  have ua := U2_lt F (bqS F (K.2.2.2 8) i + 2)
  have hmb := m_boo (fu := fu) (P := pK F n K) (p := K.2.2.2 8) (i := i) (e := e) (u := j) (cnt := U2 F (K.2.2.2 8)) pP hPG e1 (fun k hk => bi k (by omega) (by omega)) y uc hj i 0 fu (by omega) (by
    have := kf.1.1.1
    omega)
  refine ⟨if j = 0 then nI (U2 F (bqS F (K.2.2.2 8) i)) else if j ≤ U2 F (bqS F (K.2.2.2 8) i + 2) then nI (U2 F (bqS F (K.2.2.2 8) i + 2 + 2 * j)) else -1, ?_, hmb⟩
  rw [r1, ckK_ok r2, r3]
  by_cases q : j < U2 F (bqS F (K.2.2.2 8) i + 2) + 1
  · rw [if_pos (nI_lt q (by omega)), ckIn_n y (by omega), ckIn_n q (by omega), nI_clamp (by omega)]
    by_cases q0 : j = 0
    · rw [if_pos q0, q0, r4]
    · rw [if_neg q0, if_pos (by omega), r5 j (by omega) q]
  · rw [if_neg (nI_nlt (by omega) hj), if_neg (by omega), if_neg (by omega)]
end Qry3
