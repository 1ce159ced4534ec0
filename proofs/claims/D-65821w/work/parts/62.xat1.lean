/-! attributes: the component's helpers -/
section XAt1
set_option maxRecDepth 100000
theorem nI_add' (k : Nat) (a : Nat) : no_index (OfNat.ofNat k) + nI a = nI (k + a) := nI_add k a
section A
variable {F : Nat → Int32} {n x0 fu : Nat} {σ : GS}
theorem x_eo_loop {e : Nat} (hF : xF F n x0 σ) (he : e ≤ n) (hn : n ≤ 20000) : ∀ k f q i, k < f → i + k < 70000 → q ≤ e → x_endOfAttributes_23L fu σ f x0 (nI e) (nI (i + k)) (nI q) (nI i) = some (oI (eoL F e k q)) := by
  intro k
  induction k with
  | zero =>
    intro f q i hf hi hq
    obtain ⟨f, rfl⟩ : ∃ z9, f = z9 + 1 := ⟨f - 1, by omega⟩
    show x_endOfAttributes_23 fu σ (x_endOfAttributes_23L fu σ f) x0 (nI e) (nI (i + 0)) (nI q) (nI i) = _
    unfold x_endOfAttributes_23 eoL
    rw [if_pos (nI_le (by omega) (by omega))]
    rfl
  | succ k ih =>
    intro f q i hf hi hq
    obtain ⟨f, rfl⟩ : ∃ z9, f = z9 + 1 := ⟨f - 1, by omega⟩
    have hu := U4_lt F (q + 2)
    show x_endOfAttributes_23 fu σ (x_endOfAttributes_23L fu σ f) x0 (nI e) (nI (i + (k + 1))) (nI q) (nI i) = _
    unfold x_endOfAttributes_23 eoL
    rw [if_neg (nI_ge (by omega) (by omega)), nI_6]
    by_cases h1 : e < q + 6
    · rw [if_neg (nI_ge h1 (by omega)), if_pos h1]
      rfl
    rw [if_pos (nI_le (by omega) (by omega)), if_neg h1, ckT_ok hF.1, nI_2, x_u4_ok hF (by omega), Option.bind_some, nx_eq, nI_long (by omega), pk_sub hq, show nI (e - q) - (6 : Int32) = nI (e - q - 6) from pk_sub (b := 6) (by omega), nI_l (by omega)]
    by_cases h2 : e - q - 6 < U4 F (q + 2)
    · rw [if_neg (fun w => by have := (cmp_le (by omega) (by omega)).mp w; omega), if_pos h2]
      rfl
    rw [if_pos ((cmp_le (by omega) (by omega)).mpr (by omega)), if_neg h2, nx_eq, nx_eq, lN_i', nI_1, nI_add' 6, nI_add]
    have := ih f (q + (6 + U4 F (q + 2))) (i + 1) (by omega) (by omega) (by omega)
    rw [show i + 1 + k = i + (k + 1) by omega, show q + (6 + U4 F (q + 2)) = q + 6 + U4 F (q + 2) by omega] at this
    rw [show q + (6 + U4 F (q + 2)) = q + 6 + U4 F (q + 2) by omega]
    exact this
theorem x_endOfAttributes_ok {p e : Nat} (hF : xF F n x0 σ) (he : e ≤ n) (hn : n ≤ 20000) (hp : p ≤ 700000) (hfu : 65536 < fu) : x_endOfAttributes fu σ x0 (nI p) (nI e) = some (oI (eoaS F p e)) := by
  have hu := U2_lt F p
  unfold x_endOfAttributes x_endOfAttributes_0 eoaS
  rw [nI_2]
  by_cases h : e < p + 2
  · rw [if_neg (nI_ge h (by omega)), if_pos h]
    rfl
  rw [if_pos (nI_le (by omega) (by omega)), if_neg h, ckT_ok hF.1, x_u2_ok hF (by omega), Option.bind_some, nx_eq]
  have := x_eo_loop (fu := fu) hF he hn (U2 F p) fu (p + 2) 0 (by omega) (by omega) (by omega)
  rw [Nat.zero_add] at this
  exact this
theorem x_isTable_ok {p len row : Nat} (hF : xF F n x0 σ) (hn : n ≤ 20000) (hp : p + len ≤ n) (hr : row < 10) : x_isTable σ x0 (nI p) (nI len) (nI row) = some (bi (tabS F p len row)) := by
  have hu := U2_lt F p
  have hm : row * U2 F p < 700000 := by
    have := Nat.mul_le_mul (show row ≤ 10 by omega) (show U2 F p ≤ 65535 by omega)
    omega
  unfold x_isTable x_isTable_0 x_isTable_22
  by_cases h : len < 2
  · rw [if_pos (show nI len < (2 : Int32) from nI_lt (b := 2) h (by omega)), bi_f (fun w => by have := w.1; omega)]
  rw [if_neg (show ¬ nI len < (2 : Int32) from nI_nlt (b := 2) (by omega) (by omega)), ckT_ok hF.1, x_u2_ok hF (by omega), Option.bind_some, pk_mul, nI_add' 2]
  by_cases q : len = 2 + row * U2 F p
  · rw [if_pos (by rw [← q]), bi_t ⟨by omega, q⟩]
  · rw [if_neg (fun w => q ((nI_eq (by omega) (by omega)).mp w)), bi_f (fun w => q w.2)]
end A
section B
variable {P : PD} {x0 c lo fu : Nat} {N : Nat → Prop} {σ : GS}
theorem x_ac_loop {p : Nat} (hF : xF P.1 P.2.1 x0 σ) (h : xPc P c lo N σ) (g : PG P) (hp : p + 2 + 2 * U2 P.1 p ≤ P.2.1) : ∀ d k f, k + d = U2 P.1 p → d < f → x_areClasses_9L fu σ f x0 c (nI p) (nI (U2 P.1 p)) (nI k) = some (bi (∀ i, k ≤ i → i < U2 P.1 p → tgP P (U2 P.1 (p + 2 + 2 * i)) = 7)) := by
  have hn := g.1
  have hu := U2_lt P.1 p
  intro d
  induction d with
  | zero =>
    intro k f hk hf
    obtain ⟨f, rfl⟩ : ∃ z9, f = z9 + 1 := ⟨f - 1, by omega⟩
    show x_areClasses_9 fu σ (x_areClasses_9L fu σ f) x0 c (nI p) (nI (U2 P.1 p)) (nI k) = _
    unfold x_areClasses_9
    rw [if_pos (nI_le (by omega) (by omega)), bi_t (fun i i1 i2 => by omega)]
  | succ d ih =>
    intro k f hk hf
    obtain ⟨f, rfl⟩ : ∃ z9, f = z9 + 1 := ⟨f - 1, by omega⟩
    show x_areClasses_9 fu σ (x_areClasses_9L fu σ f) x0 c (nI p) (nI (U2 P.1 p)) (nI k) = _
    unfold x_areClasses_9
    rw [if_neg (nI_ge (by omega) (by omega)), ckT_ok hF.1, nI_2, show (2 : Int32) * nI k = nI (2 * k) from pk_mul 2 k, nI_add, x_u2_ok hF (by omega), Option.bind_some, show (7 : Int32) = nI 7 from rfl, x_isTag_ok h g (U2_lt _ _) (by omega) (by omega), Option.bind_some, nx_eq, nI_1, ih (k + 1) f (by omega) (by omega)]
    by_cases q : tgP P (U2 P.1 (p + 2 + 2 * k)) = 7
    · rw [ib_t q]
      exact congrArg some (bi_iff ⟨fun w i i1 i2 => by
        rcases Nat.lt_or_ge k i with z | z
        · exact w i z i2
        · rw [show i = k by omega]
          exact q, fun w i i1 i2 => w i (by omega) i2⟩)
    · rw [ib_f q, bi_f (fun w => q (w k (Nat.le_refl _) (by omega)))]
theorem x_areClasses_ok {p : Nat} (hF : xF P.1 P.2.1 x0 σ) (h : xPc P c lo N σ) (g : PG P) (hfu : 65536 < fu) (hp : p + 2 + 2 * U2 P.1 p ≤ P.2.1) : x_areClasses fu σ x0 c (nI p) = some (bi (clsP P p)) := by
  have hu := U2_lt P.1 p
  unfold x_areClasses x_areClasses_0
  rw [ckT_ok hF.1, x_u2_ok hF (by omega), Option.bind_some]
  exact x_ac_loop hF h g hp (U2 P.1 p) 0 fu (by omega) (by omega)
theorem x_isLoadable_ok {e : Nat} (h : xPc P c lo N σ) (g : PG P) (he : e < 65536) : x_isLoadable σ c (nI e) = some (bi (ldP P e)) := by
  have hc := ctP_lt P
  have hl := tgP_lt P e
  have t0 : P.2.2.1 e = 0 → tgP P e = 0 := fun z => by unfold tgP; rw [z]; rfl
  unfold x_isLoadable x_isLoadable_0 x_isLoadable_32 x_isLoadable_44 x_isLoadable_48 ldP
  by_cases h0 : e = 0
  · have := t0 (by rw [h0]; exact g.2.2.2.1)
    rw [if_pos (by rw [h0]; decide), bi_f (fun w => by omega)]
  rw [if_neg (show ¬ nI e ≤ 0 from nI_ge (a := 0) (by omega) (by omega)), ckT_ok h.1.1, h.1.2.2.2]
  by_cases h1 : ctP P ≤ e
  · have := t0 (g.2.2.1 e h1)
    rw [if_neg (nI_nlt h1 (by omega)), bi_f (fun w => by omega)]
  rw [if_pos (nI_lt (by omega) (by omega)), h.2.1.1, ckK_ok h.2.2.1.1, h.2.2.2.1.1, ckIn_n (by omega) (by omega), nx_eq, nI_clamp (by omega), (x_tg h (by omega)).1]
  simp (disch := (first | omega | decide)) only [nI_eqL, nI_leL, nI_ltL, nI_Lle, nI_Llt, nI_eq, nI_leI, nI_ltI]
  by_cases a1 : tgP P e < 3
  · rw [if_pos a1, if_pos (by omega), bi_f (fun w => by omega)]
  rw [if_neg a1]
  by_cases a2 : tgP P e ≤ 8
  · rw [if_pos a2, bi_t (by omega)]
  rw [if_neg a2]
  by_cases a3 : tgP P e < 15
  · rw [if_pos a3, bi_f (fun w => by omega)]
  rw [if_neg a3]
  by_cases a4 : 17 < tgP P e
  · rw [if_pos a4, bi_f (fun w => by omega)]
  · rw [if_neg a4, bi_t (by omega)]
theorem x_known_ok {wh s : Nat} {t : List Nat} (h : xPc P c lo N σ) (hL : xLi N σ) (hfu : 131072 < fu) (hw : wh ≤ 3) (hs : sS t s σ) : x_known fu σ c (nI wh) s = some (nI (knS (mjP P) wh t)) := by
  have hm := mjP_lt P
  have eq : ∀ j, j < 16 → x_J2_equals fu σ s (gz σ j) = some (bi (t = xl j)) := fun j hj => x_equals_ok hs (hL j hj).1 hfu
  unfold x_known x_known_0 x_known_83 x_known_225 knS
  simp only [ckT_ok hs.1, ckT_ok h.1.1, h.1.2.1, eq 3 (by omega), eq 4 (by omega), eq 5 (by omega), eq 6 (by omega), eq 7 (by omega), eq 8 (by omega), eq 9 (by omega), eq 10 (by omega), eq 11 (by omega), eq 12 (by omega), Option.bind_some]
  have ml : ∀ (k a : Nat) {x y : Int32}, k < 100 → x = nI 0 → y = nI a → (if nI (mjP P) < nI k then some x else some y) = some (nI (if k ≤ mjP P then a else 0)) := by
    intro k a x y hk hx hy
    by_cases z : k ≤ mjP P
    · rw [if_neg (nI_nlt z (by omega)), if_pos z, hy]
    · rw [if_pos (nI_lt (by omega) (by omega)), if_neg z, hx]
  rw [show xl 3 = lT 0 from rfl, show xl 4 = lT 1 from rfl, show xl 5 = lT 2 from rfl, show xl 6 = lT 3 from rfl, show xl 7 = lT 4 from rfl, show xl 8 = lT 5 from rfl, show xl 9 = lT 6 from rfl, show xl 10 = lT 7 from rfl, show xl 11 = lT 8 from rfl, show xl 12 = lT 9 from rfl]
  by_cases w0 : wh = 0
  · rw [if_pos (show nI wh = 0 by rw [w0]; rfl), if_pos w0]
    by_cases q : t = lT 0
    · rw [ib_t q, if_pos q]
      rfl
    · rw [ib_f q, if_neg q]
      rfl
  rw [if_neg (nL (k := 0) (by omega) (by omega) w0), if_neg w0]
  by_cases w1 : wh = 1
  · rw [if_pos (show nI wh = (1 : Int32) by rw [w1]; rfl), if_pos w1]
    by_cases q : t = lT 1
    · rw [ib_t q, if_pos q]
      rfl
    · rw [ib_f q, if_neg q]
      by_cases q2 : t = lT 2
      · rw [ib_t q2, if_pos q2]
        rfl
      · rw [ib_f q2, if_neg q2]
        rfl
  rw [if_neg (nL (k := 1) (by omega) (by omega) w1), if_neg w1]
  by_cases w2 : wh = 2
  · rw [if_pos (show nI wh = (2 : Int32) by rw [w2]; rfl), if_pos w2]
    by_cases q : t = lT 3
    · rw [ib_t q, if_pos q]
      exact ml 50 4 (by omega) rfl rfl
    · rw [ib_f q, if_neg q]
      rfl
  rw [if_neg (nL (k := 2) (by omega) (by omega) w2), if_neg w2]
  by_cases q4 : t = lT 4
  · rw [ib_t q4, if_pos q4]
    rfl
  rw [ib_f q4, if_neg q4]
  by_cases q5 : t = lT 5
  · rw [ib_t q5, if_pos q5]
    exact ml 51 6 (by omega) rfl rfl
  rw [ib_f q5, if_neg q5]
  by_cases q6 : t = lT 6
  · rw [ib_t q6, if_pos q6]
    exact ml 55 7 (by omega) rfl rfl
  rw [ib_f q6, if_neg q6]
  by_cases q7 : t = lT 7
  · rw [ib_t q7, if_pos q7]
    exact ml 55 8 (by omega) rfl rfl
  rw [ib_f q7, if_neg q7]
  by_cases q8 : t = lT 8
  · rw [ib_t q8, if_pos q8]
    exact ml 60 9 (by omega) rfl rfl
  rw [ib_f q8, if_neg q8]
  by_cases q9 : t = lT 9
  · rw [ib_t q9, if_pos q9]
    exact ml 61 10 (by omega) rfl rfl
  rw [ib_f q9, if_neg q9]
  rfl
theorem FieldS_0 {d : List Nat} (h : FieldS d) : 0 < d.length ∧ (kix (ch d 0) ≠ none ∨ ch d 0 = 76 ∨ ch d 0 = 91) := by
  unfold FieldS ftS at h
  have hl : 0 < d.length := by
    refine Nat.pos_of_ne_zero fun z => ?_
    rw [z] at h
    have e : brkS d (0 - 0) 0 = 0 := rfl
    rw [e, if_neg (by omega), if_pos (by omega)] at h
    cases h
  refine ⟨hl, ?_⟩
  by_cases h91 : ch d 0 = 91
  · exact Or.inr (Or.inr h91)
  have hb : brkS d (d.length - 0) 0 = 0 := by
    obtain ⟨k, hk⟩ : ∃ k, d.length - 0 = k + 1 := ⟨d.length - 1, by omega⟩
    rw [hk]
    unfold brkS
    rw [if_neg h91]
  rw [hb] at h
  by_cases hk : kix (ch d 0) = none
  · rw [if_neg (by omega), if_neg (by omega), if_pos hk] at h
    by_cases h76 : ch d 0 = 76
    · exact Or.inr (Or.inl h76)
    · rw [if_neg h76] at h
      cases h
  · exact Or.inl hk
theorem x_isConstant_ok {f s e : Nat} {d : List Nat} (h : xPc P c lo N σ) (hL : xLi N σ) (g : PG P) (hfu : 131072 < fu) (hf : gk σ f = 3) (h5 : gi σ f 5 = nI e) (he : e < 65536) (h6 : gi σ f 6 = nI (kindS (ch d 0))) (h1 : gr σ f 1 = some s) (hs : sS d s σ) (hd : FieldS d) : x_isConstant fu σ c f = some (bi (cokP P d e)) := by
  have tk : ∀ t, 0 < t → t < 256 → ((x_isTag σ c (nI e) (nI t)).bind fun r4 => ckN .boolean r4 (some r4)) = some (bi (tgP P e = t)) := fun t h1 h2 => by rw [x_isTag_ok h g he h1 h2, Option.bind_some, ckN_bi]
  have tk8 := x_isTag_ok (t := 8) h g he (by omega) (by omega)
  have eq13 : x_J2_equals fu σ s (gz σ 13) = some (bi (d = lT 13)) := x_equals_ok hs (hL 13 (by omega)).1 hfu
  unfold x_isConstant x_isConstant_0 x_isConstant_101
  rw [ckT_ok hf, nx_eq, h5, h6, h1, ckK_ok hs.1, eq13, Option.bind_some]
  rw [show x_isTag σ c (nI e) (8 : Int32) = _ from tk8, Option.bind_some]
  rw [show ((x_isTag σ c (nI e) (3 : Int32)).bind fun r4 => ckN .boolean r4 (some r4)) = _ from tk 3 (by omega) (by omega), show ((x_isTag σ c (nI e) (4 : Int32)).bind fun r4 => ckN .boolean r4 (some r4)) = _ from tk 4 (by omega) (by omega), show ((x_isTag σ c (nI e) (5 : Int32)).bind fun r4 => ckN .boolean r4 (some r4)) = _ from tk 5 (by omega) (by omega), show ((x_isTag σ c (nI e) (6 : Int32)).bind fun r4 => ckN .boolean r4 (some r4)) = _ from tk 6 (by omega) (by omega)]
  obtain ⟨hl, hk⟩ := FieldS_0 hd
  have rf : kix (ch d 0) = none → (ch d 0 = 76 ∨ ch d 0 = 91) → kindS (ch d 0) = 8 := by
    intro z w
    unfold kindS
    rw [z]
    rcases w with w | w <;> rw [w] <;> rfl
  by_cases n76 : ch d 0 = 76
  · have hk8 : kindS (ch d 0) = 8 := rf (by rw [n76]; rfl) (Or.inl n76)
    have ec : cokP P d e ↔ (d = lT 13 ∧ tgP P e = 8) := by
      unfold cokP
      rw [if_neg (by omega), if_neg (by omega), if_neg (by omega), if_pos n76]
    rw [hk8, propext ec]
    show (if bi (d = lT 13) = 0 then some 0 else if bi (tgP P e = 8) = 0 then some (0 : Int32) else some 1) = _
    by_cases q1 : d = lT 13
    · by_cases q2 : tgP P e = 8
      · rw [ib_t q1, ib_t q2, bi_t ⟨q1, q2⟩]
      · rw [ib_t q1, ib_f q2, bi_f (fun w => q2 w.2)]
    · rw [ib_f q1, bi_f (fun w => q1 w.1)]
  by_cases n91 : ch d 0 = 91
  · have hk8 : kindS (ch d 0) = 8 := rf (by rw [n91]; rfl) (Or.inr n91)
    have ec : cokP P d e ↔ False := by
      unfold cokP
      rw [if_neg (by omega), if_neg (by omega), if_neg (by omega), if_neg n76, if_pos n91]
    rw [hk8, propext ec]
    show (if bi (d = lT 13) = 0 then some 0 else if bi (tgP P e = 8) = 0 then some (0 : Int32) else some 1) = _
    have q1 : ¬ d = lT 13 := fun w => by
      rw [w] at n91
      exact absurd n91 (by decide)
    rw [ib_f q1, bi_f id]
  have hk : kix (ch d 0) ≠ none := hk.elim id (fun z => z.elim (fun z => absurd z n76) (fun z => absurd z n91))
  have cs : ch d 0 = 90 ∨ ch d 0 = 67 ∨ ch d 0 = 70 ∨ ch d 0 = 68 ∨ ch d 0 = 66 ∨ ch d 0 = 83 ∨ ch d 0 = 73 ∨ ch d 0 = 74 := by
    unfold kix at hk
    repeat' split at hk
    all_goals first | omega | exact absurd rfl hk
  unfold cokP
  rcases cs with z | z | z | z | z | z | z | z <;> rw [z] <;> rfl
end B
end XAt1
