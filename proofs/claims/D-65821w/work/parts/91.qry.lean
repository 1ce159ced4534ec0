/-! questions about what is kept: count, entry, bits, character -/
section Qry
set_option maxRecDepth 100000
/-- a number is below 0, or one of ours -/
theorem i32c (v : Int32) : v < 0 ∨ ∃ k, k < 2 ^ 31 ∧ v = nI k := by
  by_cases h : v < 0
  · exact Or.inl h
  · refine Or.inr ⟨v.toInt.toNat, ?_, ?_⟩
    · have := Int32.toInt_lt v
      omega
    · have h0 : 0 ≤ v.toInt := by
        rw [Int32.lt_iff_toInt_lt] at h
        have e : (0 : Int32).toInt = 0 := by decide
        omega
      refine Int32.toInt_inj.mp ?_
      have := Int32.toInt_lt v
      rw [show nI v.toInt.toNat = Int32.ofNat v.toInt.toNat from rfl, Int32.toInt_ofNat_of_lt (by omega)]
      omega
theorem nn0 {k : Nat} (h : k < 2 ^ 31) : ¬ nI k < 0 := nI_nlt (b := 0) (by omega) (by omega)
variable {F : Nat → Int32} {n : Nat} {K : CR} {x0 c lo B fu : Nat} {N : Nat → Prop} {T : Nat → MR → GS → Prop} {σ : GS} {M : Nat} {S : Nat → List Nat} {τ : SM}
/-- what is kept, as data -/
abbrev pK (F : Nat → Int32) (n : Nat) (K : CR) : PD := (F, n, K.1.1, K.1.2.1)
/-- the component keeps a class -/
def xKc (T : Nat → MR → GS → Prop) (F : Nat → Int32) (n : Nat) (K : CR) (x0 c lo B : Nat) (N : Nat → Prop) (σ : GS) : Prop := gk σ x0 = 1 ∧ gr σ x0 5 = some c ∧ xKp T F n K c lo B N σ
/-- the twin keeps it, and nothing is thrown -/
def mKc (F : Nat → Int32) (n : Nat) (K : CR) (M : Nat) (S : Nat → List Nat) (τ : SM) : Prop := τ.1 18 = nI n ∧ n ≤ 1300 ∧ mKp F n K M S τ
theorem mKc.ge (h : mKc F n K M S τ) : (0 : Int32) ≤ τ.1 18 := by
  have := h.2.1
  rw [h.1]
  exact nI_pos' (by omega)
theorem mKc.nl (h : mKc F n K M S τ) : ¬ τ.1 18 < 0 := by
  have := h.2.1
  rw [h.1]
  exact nn0 (by omega)
theorem mKc.t0 (h : mKc F n K M S τ) {v : Int32} : mKc F n K M S (sf τ 0 v) := by
  have f : mfr [0] [] τ (sf τ 0 v) := mfr.sf (by decide)
  exact ⟨(f.1 18 (by decide)).trans h.1, h.2.1, h.2.2.fr f (by decide +kernel) (by decide)⟩
/-- the lengths of all texts -/
def tlS (P : PD) : Nat → Nat → Nat
  | 0, _ => 0
  | d + 1, k => (if tgP P k = 1 then (txP P k).length else 0) + tlS P d (k + 1)
theorem x_cnt11 {P : PD} (h : xPc P c lo N σ) (g : PG P) : ∀ d k f a, k + d = ctP P → d < f → x_count_172L fu σ f (some c) (nI a) (nI k) = some (nI (a + tlS P d k)) := by
  have hc := ctP_lt P
  intro d
  induction d with
  | zero =>
    intro k f a hk hf
    obtain ⟨f, rfl⟩ : ∃ z9, f = z9 + 1 := ⟨f - 1, by omega⟩
    show x_count_172 fu σ (x_count_172L fu σ f) (some c) (nI a) (nI k) = _
    unfold x_count_172 tlS
    rw [ckK_ok h.1.1, h.1.2.2.2, if_pos (nI_le (by omega) (by omega))]
    rfl
  | succ d ih =>
    intro k f a hk hf
    obtain ⟨f, rfl⟩ : ∃ z9, f = z9 + 1 := ⟨f - 1, by omega⟩
    have tl := tgP_lt P k
    show x_count_172 fu σ (x_count_172L fu σ f) (some c) (nI a) (nI k) = _
    unfold x_count_172 x_count_207 tlS
    rw [ckK_ok h.1.1, h.1.2.2.2, if_neg (nI_ge (by omega) (by omega)), h.2.1.1, ckK_ok h.2.2.1.1, h.2.2.2.1.1, ckIn_n (by omega) (by omega), nI_clamp (by omega), (x_tg h (i := k) (by omega)).1]
    by_cases ht : tgP P k = 1
    · obtain ⟨s, s1, s2⟩ := x_text h g ht
      rw [if_pos (show nI (tgP P k) = (1 : Int32) by rw [ht]; rfl), h.2.1.2.2.2.2, ckK_ok h.2.2.1.2.2.2.2, h.2.2.2.1.2.2.2.2, ckIn_n (by omega) (by omega), s1, ckK_ok s2.1, s2.toxT.2.2.2.1, Option.bind_some, nx_eq, nx_eq, nI_1, nI_add, if_pos ht, ih (k + 1) f _ (by omega) (by omega), Nat.add_assoc]
    · rw [if_neg (nL (k := 1) (by omega) (by omega) ht), nx_eq, nx_eq, nI_1, show nI a + (0 : Int32) = nI (a + 0) from nI_add a 0, if_neg ht, ih (k + 1) f _ (by omega) (by omega), Nat.zero_add, Nat.add_zero]
theorem m_cnt11 {P : PD} (h : mPo P M S τ) (g : PG P) : ∀ d k f a, k + d = ctP P → d < f → m_count_176L fu f τ (nI a) (nI k) = some (nI (a + tlS P d k), τ) := by
  have hc := ctP_lt P
  intro d
  induction d with
  | zero =>
    intro k f a hk hf
    obtain ⟨f, rfl⟩ : ∃ z9, f = z9 + 1 := ⟨f - 1, by omega⟩
    show m_count_176 fu (m_count_176L fu f) τ (nI a) (nI k) = _
    unfold m_count_176 tlS
    rw [h.1.2.2.1, if_pos (nI_le (by omega) (by omega))]
    rfl
  | succ d ih =>
    intro k f a hk hf
    obtain ⟨f, rfl⟩ : ∃ z9, f = z9 + 1 := ⟨f - 1, by omega⟩
    have tl := tgP_lt P k
    show m_count_176 fu (m_count_176L fu f) τ (nI a) (nI k) = _
    unfold m_count_176 m_count_205 tlS
    rw [h.1.2.2.1, if_neg (nI_ge (by omega) (by omega)), m_tag_ok h g (by omega), Option.bind_some]
    by_cases ht : tgP P k = 1
    · obtain ⟨s, s1, s2, s3, s4⟩ := m_sym h g ht
      rw [if_pos (show nI (tgP P k) = (1 : Int32) by rw [ht]; rfl), s1, Option.bind_some, s4.2.2.1, Option.bind_some, nx_eq, nx_eq, nI_1, nI_add, if_pos ht, ih (k + 1) f _ (by omega) (by omega), Nat.add_assoc]
    · rw [if_neg (nL (k := 1) (by omega) (by omega) ht), nx_eq, nI_1, if_neg ht, ih (k + 1) f _ (by omega) (by omega), Nat.zero_add]
theorem nb71 {a : Nat → Nat} (h : mV3 F a τ) : τ.1 71 = nI (nbS F a) := by
  have := h.2.2.2.2.2
  unfold nbS
  split at this
  · rename_i z
    rw [if_pos z]
    exact this.2
  · rename_i z
    rw [if_neg z]
    exact this.2
theorem q_count (hfu : 131072 < fu) (g : FO F n K.1) (hx : xKc T F n K x0 c lo B N σ) (hm : mKc F n K M S τ) {w : Nat} (hw : w ≤ 15) : ∃ v, x_count fu σ x0 (nI w) = some v ∧ m_count fu τ (nI w) = some (v, sf τ 0 0) := by
  obtain ⟨k0, k5, hP, hH, hFs, hMs, hI⟩ := hx
  have hm0 := hm.t0 (v := 0)
  have ge := hm0.ge
  obtain ⟨-, -, pP, ⟨i54, i58, i61, i25, i26⟩, -, -, hV⟩ := hm0
  have hPG := g.1
  have hd10 := g.2.1
  have hfa := g.2.2.1
  have hfan := g.2.2.2.1
  have hc := ctP_lt (pK F n K)
  have hn := hPG.1
  have hn10 := hPG.2.1
  have c1 : 1 ≤ ctP (pK F n K) := hPG.2.2.2.2.2.2.2.2
  have dx : ∀ G : Option Nat → Option Int32, x_count fu σ x0 (nI w) = ckT σ 1 x0 (if gr σ x0 5 = none then some (-1 : Int32) else nx (gr σ x0 5) G) → x_count fu σ x0 (nI w) = G (some c) := fun G h => by rw [h, ckT_ok k0, k5, if_neg snn, nx_eq]
  have dm : ∀ G : Option (Int32 × SM), m_count fu τ (nI w) = (if (0 : Int32) ≤ (sf τ 0 0).1 18 then G else some ((-1 : Int32), sf τ 0 0)) → m_count fu τ (nI w) = G := fun G h => by rw [h, if_pos ge]
  have cs : w = 0 ∨ w = 1 ∨ w = 2 ∨ w = 3 ∨ w = 4 ∨ w = 5 ∨ w = 6 ∨ w = 7 ∨ w = 8 ∨ w = 9 ∨ w = 10 ∨ w = 11 ∨ w = 12 ∨ w = 13 ∨ w = 14 ∨ w = 15 := by omega
  have kc := hP.1.1
  rcases cs with rfl | rfl | rfl | rfl | rfl | rfl | rfl | rfl | rfl | rfl | rfl | rfl | rfl | rfl | rfl | rfl
  · refine ⟨nI (ctP (pK F n K)), ?_, ?_⟩
    · rw [dx (fun y5 => ckK σ 2 y5 fun a => some (gi σ a 6)) rfl, ckK_ok kc, hP.1.2.2.2]
    · rw [dm (some ((sf τ 0 0).1 52, sf τ 0 0)) rfl, pP.1.2.2.1]
  · obtain ⟨ff, f1, f2, f3, -⟩ := hFs
    refine ⟨nI (U2 F K.1.2.2.2.1), ?_, ?_⟩
    · rw [dx (fun y5 => ckK σ 2 y5 fun a => ckK σ 106 (gr σ a 12) fun b => some (nI (gn σ b))) rfl, ckK_ok kc, f1, ckK_ok f2, f3]
    · rw [dm (some ((sf τ 0 0).1 25, sf τ 0 0)) rfl, i25]
  · obtain ⟨mm, ⟨f1, -⟩, f2, f3, -⟩ := hMs
    refine ⟨nI (U2 F K.1.2.2.2.2.1), ?_, ?_⟩
    · rw [dx (fun y5 => ckK σ 2 y5 fun a => ckK σ 107 (gr σ a 13) fun b => some (nI (gn σ b))) rfl, ckK_ok kc, f1, ckK_ok f2, f3]
    · rw [dm (some ((sf τ 0 0).1 26, sf τ 0 0)) rfl, i26]
  · obtain ⟨-, -, -, a, f1, f2, f3⟩ := hH
    refine ⟨nI (U2 F (K.1.2.2.1 + 6)), ?_, ?_⟩
    · rw [dx (fun y5 => ckK σ 2 y5 fun a => ckK σ 100 (gr σ a 5) fun b => some (nI (gn σ b))) rfl, ckK_ok kc, f1, ckK_ok f2, f3]
    · rw [dm (some ((sf τ 0 0).1 61, sf τ 0 0)) rfl, i61]
  · obtain ⟨ba, f1, f2, f3⟩ := xBoo.nb (P := pK F n K) hI.2.2
    refine ⟨nI (nbS F K.2.2.2), ?_, ?_⟩
    · rw [dx (fun y5 => ckK σ 2 y5 fun a => ckK σ 108 (gr σ a 21) fun b => some (nI (gn σ b))) rfl, ckK_ok kc, f1, ckK_ok f2, f3]
    · rw [dm (some ((sf τ 0 0).1 71, sf τ 0 0)) rfl, nb71 hV]
  · refine ⟨nI (K.2.2.2 0), ?_, ?_⟩
    · rw [dx (fun y5 => ckK σ 2 y5 fun a => some (gi σ a 20)) rfl, ckK_ok kc, hI.2.1.1]
    · rw [dm (some ((sf τ 0 0).1 66, sf τ 0 0)) rfl, hV.1]
  · refine ⟨nI (U2 F K.1.2.2.1), ?_, ?_⟩
    · rw [dx (fun y5 => ckK σ 2 y5 fun a => some (gi σ a 0)) rfl, ckK_ok kc, hH.1]
    · rw [dm (some ((sf τ 0 0).1 58, sf τ 0 0)) rfl, i58]
  · refine ⟨nI (mjP (pK F n K)), ?_, ?_⟩
    · rw [dx (fun y5 => ckK σ 2 y5 fun a => some (gi σ a 1)) rfl, ckK_ok kc, hP.1.2.1]
    · rw [dm (some ((sf τ 0 0).1 53, sf τ 0 0)) rfl, pP.1.2.2.2]
  · refine ⟨nI (U2 F 4), ?_, ?_⟩
    · rw [dx (fun y5 => ckK σ 2 y5 fun a => some (gi σ a 2)) rfl, ckK_ok kc, hP.1.2.2.1]
    · rw [dm ((m_u2 (sf τ 0 0) (4 : Int32)).bind fun r => some (r, sf τ 0 0)) rfl, show m_u2 (sf τ 0 0) (4 : Int32) = some (nI (U2 F 4)) from m_u2_ok (p := 4) pP.1.1 (by show 4 + 2 ≤ n; have : 10 ≤ n := hn10; omega), Option.bind_some]
  · refine ⟨nI (U2 F (K.1.2.2.1 + 2)), ?_, ?_⟩
    · rw [dx (fun y5 => ckK σ 2 y5 fun a => some (gi σ a 3)) rfl, ckK_ok kc, hH.2.1]
    · rw [dm ((m_u2 (sf τ 0 0) ((sf τ 0 0).1 54 + (2 : Int32))).bind fun r => some (r, sf τ 0 0)) rfl, i54, nI_2, m_u2_ok (F := F) (n := n) pP.1.1 (by omega), Option.bind_some]
  · refine ⟨nI (U2 F (K.1.2.2.1 + 4)), ?_, ?_⟩
    · rw [dx (fun y5 => ckK σ 2 y5 fun a => some (gi σ a 4)) rfl, ckK_ok kc, hH.2.2.1]
    · rw [dm ((m_u2 (sf τ 0 0) ((sf τ 0 0).1 54 + (4 : Int32))).bind fun r => some (r, sf τ 0 0)) rfl, i54, nI_4, m_u2_ok (F := F) (n := n) pP.1.1 (by omega), Option.bind_some]
  · refine ⟨nI (0 + tlS (pK F n K) (ctP (pK F n K) - 1) 1), ?_, ?_⟩
    · rw [dx (fun y5 => x_count_172L fu σ fu y5 (0 : Int32) (1 : Int32)) rfl]
      exact x_cnt11 (P := pK F n K) hP hPG _ 1 fu 0 (by omega) (by omega)
    · rw [dm (m_count_176L fu fu (sf τ 0 0) (0 : Int32) (1 : Int32)) rfl]
      exact m_cnt11 (P := pK F n K) pP hPG _ 1 fu 0 (by omega) (by omega)
  · refine ⟨nI (K.2.2.2 4), ?_, ?_⟩
    · rw [dx (fun y5 => ckK σ 2 y5 fun a => some (gi σ a 18)) rfl, ckK_ok kc, hI.2.1.2.1]
    · rw [dm (some ((sf τ 0 0).1 65, sf τ 0 0)) rfl, hV.2.1]
  · refine ⟨nI (K.2.2.2 5), ?_, ?_⟩
    · rw [dx (fun y5 => ckK σ 2 y5 fun a => some (gi σ a 16)) rfl, ckK_ok kc, hI.2.1.2.2.1]
    · rw [dm (some ((sf τ 0 0).1 68, sf τ 0 0)) rfl, hV.2.2.1]
  · refine ⟨nI (K.2.2.2 6), ?_, ?_⟩
    · rw [dx (fun y5 => ckK σ 2 y5 fun a => some (gi σ a 17)) rfl, ckK_ok kc, hI.2.1.2.2.2.1]
    · rw [dm (some ((sf τ 0 0).1 69, sf τ 0 0)) rfl, hV.2.2.2.1]
  · refine ⟨nI (K.2.2.2 7) - 1, ?_, ?_⟩
    · rw [dx (fun y5 => ckK σ 2 y5 fun a => some (gi σ a 19)) rfl, ckK_ok kc, hI.2.1.2.2.2.2.1]
    · rw [dm (some ((sf τ 0 0).1 72, sf τ 0 0)) rfl, hV.2.2.2.2.1]
/-- is there such an entry -/
theorem x_isEntry_ok (hx : xKc T F n K x0 c lo B N σ) {v : Int32} : x_isEntry σ x0 v = some (bi (∃ k, k < ctP (pK F n K) ∧ v = nI k)) := by
  obtain ⟨k0, k5, hP, -⟩ := hx
  have hP : xPc (pK F n K) c lo N σ := hP
  have hc := ctP_lt (pK F n K)
  unfold x_isEntry x_isEntry_0 x_isEntry_26
  rw [ckT_ok k0, k5, if_neg snn]
  rcases i32c v with h | ⟨k, hk, rfl⟩
  · rw [if_pos h, bi_f (fun ⟨k, z1, z2⟩ => by rw [z2] at h; exact nn0 (by omega) h)]
  · rw [if_neg (nn0 hk), ckK_ok hP.1.1, hP.1.2.2.2]
    by_cases z : k < ctP (pK F n K)
    · rw [if_neg (nI_ge z (by omega)), bi_t ⟨k, z, rfl⟩]
    · rw [if_pos (nI_le (by omega) (by omega)), bi_f (fun ⟨j, z1, z2⟩ => by have := (nI_eq (by omega) (by omega)).mp z2; omega)]
theorem m_tag_no {P : PD} (h : mPo P M S τ) {v : Int32} (hv : ¬ ∃ k, k < ctP P ∧ v = nI k) : m_tag τ v = some 0 := by
  have hc := ctP_lt P
  unfold m_tag m_tag_0 m_tag_26
  rcases i32c v with z | ⟨k, hk, rfl⟩
  · rw [if_pos (Int32.le_of_lt z)]
  · by_cases h0 : nI k ≤ 0
    · rw [if_pos h0]
    · rw [if_neg h0, h.1.2.2.1, if_pos (nI_le (Nat.le_of_not_lt fun w => hv ⟨k, w, rfl⟩) hk)]
/-- both sides' tags at any number -/
theorem tg_any {P : PD} (h : mPo P M S τ) (g : PG P) (v : Int32) : (∃ k, k < ctP P ∧ v = nI k ∧ m_tag τ v = some (nI (tgP P k))) ∨ ((¬ ∃ k, k < ctP P ∧ v = nI k) ∧ m_tag τ v = some 0) := by
  have hc := ctP_lt P
  by_cases z : ∃ k, k < ctP P ∧ v = nI k
  · obtain ⟨k, z1, z2⟩ := z
    exact Or.inl ⟨k, z1, z2, by rw [z2]; exact m_tag_ok h g (by omega)⟩
  · exact Or.inr ⟨z, m_tag_no h z⟩
theorem q_entry (g : FO F n K.1) (hx : xKc T F n K x0 c lo B N σ) (hm : mKc F n K M S τ) {w : Nat} (hw : w ≤ 2) (v : Int32) : ∃ r, x_entry σ x0 v (nI w) = some r ∧ m_entry τ v (nI w) = some (r, sf τ 0 0) := by
  have hE := x_isEntry_ok hx (v := v)
  obtain ⟨k0, k5, hP, -⟩ := hx
  have hP : xPc (pK F n K) c lo N σ := hP
  have hm0 := hm.t0 (v := 0)
  have nl := hm0.nl
  obtain ⟨-, -, pP, -⟩ := hm0
  have hPG := g.1
  have hc := ctP_lt (pK F n K)
  have ew : ∀ {j : Nat}, j < 100 → (nI w = nI j ↔ w = j) := fun hj => nI_eq (by omega) (by omega)
  have w2 : nI w ≤ (2 : Int32) := nI_le (b := 2) hw (by omega)
  unfold x_entry x_entry_0 m_entry m_entry_0
  rw [nx_eq, if_neg (nn0 (by omega)), if_neg (nn0 (by omega)), if_pos w2, if_pos w2, ckT_ok k0, hE, Option.bind_some, if_neg nl, pP.1.2.2.1]
  by_cases z : ∃ k, k < ctP (pK F n K) ∧ v = nI k
  case neg =>
    refine ⟨-1, by rw [ib_f z], ?_⟩
    rcases i32c v with h | ⟨k, hk, rfl⟩
    · rw [if_pos h]
    · rw [if_neg (nn0 hk), if_neg (nI_nlt (Nat.le_of_not_lt fun y => z ⟨k, y, rfl⟩) hk)]
  rw [ib_t z]
  obtain ⟨k, hk, rfl⟩ := z
  have pa := paP_lt (pK F n K) k
  have pb := pbP_lt (pK F n K) k
  have tl := tgP_lt (pK F n K) k
  obtain ⟨e1, e2, e3, -⟩ := x_tg hP hk
  rw [if_neg (nn0 (by omega)), if_pos (nI_lt hk (by omega)), m_tag_ok pP hPG (by omega), Option.bind_some, k5, ckK_ok hP.1.1, hP.2.1.1, ckK_ok hP.2.2.1.1, hP.2.2.2.1.1, ckIn_n hk (by omega), nI_clamp (by omega), nx_eq, e1]
  have w0 : nI w = 0 ↔ w = 0 := ew (j := 0) (by omega)
  have w1 : nI w = 1 ↔ w = 1 := ew (j := 1) (by omega)
  by_cases z0 : w = 0
  · exact ⟨nI (tgP (pK F n K) k), by rw [if_pos (w0.mpr z0)], by rw [if_pos (w0.mpr z0)]⟩
  rw [if_neg (fun y => z0 (w0.mp y)), if_neg (fun y => z0 (w0.mp y))]
  -- the component's answers
  have x73 : ∀ t0 : Int32, x_entry_120 σ x0 (nI k) (nI w) 1 1 = some (if w = 1 then nI (paP (pK F n K) k) else nI (pbP (pK F n K) k)) := fun _ => by
    unfold x_entry_120
    rw [if_neg i10, ckT_ok k0, k5, ckK_ok hP.1.1, hP.2.1.2.1, ckK_ok hP.2.2.1.2.1, hP.2.2.2.1.2.1, ckIn_n hk (by omega), nI_clamp (by omega), e2, if_neg i10, ckT_ok k0, ckK_ok hP.1.1, hP.2.1.2.2.1, ckK_ok hP.2.2.1.2.2.1, hP.2.2.2.1.2.2.1, ckIn_n hk (by omega), e3]
    by_cases y : w = 1
    · rw [if_pos (w1.mpr y), if_pos y]
    · rw [if_neg (fun q => y (w1.mp q)), if_neg y]
  have x115 : x_entry_120 σ x0 (nI k) (nI w) 0 1 = some (if w = 1 then nI (paP (pK F n K) k) else 0) := by
    unfold x_entry_120
    rw [if_neg i10, ckT_ok k0, k5, ckK_ok hP.1.1, hP.2.1.2.1, ckK_ok hP.2.2.1.2.1, hP.2.2.2.1.2.1, ckIn_n hk (by omega), nI_clamp (by omega), e2, if_pos rfl]
    by_cases y : w = 1
    · rw [if_pos (w1.mpr y), if_pos y]
    · rw [if_neg (fun q => y (w1.mp q)), if_neg y]
  have x0' : x_entry_120 σ x0 (nI k) (nI w) 0 0 = some 0 := by
    unfold x_entry_120
    rw [if_pos rfl, if_pos rfl]
    split <;> rfl
  unfold x_entry_55 x_entry_73 x_entry_78 x_entry_115 m_entry_143 m_entry_115 m_entry_155 m_entry_167
  rw [x73 0, x115, x0']
  have tk : ∀ j : Nat, j < 256 → (nI (tgP (pK F n K) k) = nI j ↔ tgP (pK F n K) k = j) := fun j hj => nI_eq (by omega) (by omega)
  generalize ht : tgP (pK F n K) k = t at *
  have b9 : t < 9 → nI t < (9 : Int32) := fun y => nI_lt (b := 9) y (by omega)
  have nb9 : ¬ t < 9 → ¬ nI t < (9 : Int32) := fun y => nI_nlt (b := 9) (by omega) (by omega)
  have b12 : t ≤ 12 → nI t ≤ (12 : Int32) := fun y => nI_le (b := 12) y (by omega)
  have nb12 : ¬ t ≤ 12 → ¬ nI t ≤ (12 : Int32) := fun y => nI_ge (a := 12) (by omega) (by omega)
  have no : ∀ {j : Nat}, j < 256 → t ≠ j → ¬ nI t = nI j := fun hj y q => y ((tk _ hj).mp q)
  have n7 : t ≠ 7 → ¬ nI t = (7 : Int32) := no (by omega)
  have n8 : t ≠ 8 → ¬ nI t = (8 : Int32) := no (by omega)
  have n15 : t ≠ 15 → ¬ nI t = (15 : Int32) := no (by omega)
  have n16 : t ≠ 16 → ¬ nI t = (16 : Int32) := no (by omega)
  have n17 : t ≠ 17 → ¬ nI t = (17 : Int32) := no (by omega)
  have n18 : t ≠ 18 → ¬ nI t = (18 : Int32) := no (by omega)
  have n19 : t ≠ 19 → ¬ nI t = (19 : Int32) := no (by omega)
  have n20 : t ≠ 20 → ¬ nI t = (20 : Int32) := no (by omega)
  -- two parts
  by_cases t2 : twoT t
  · have i1 : m_index (sf τ 0 0) (nI k) 1 = some (nI (paP (pK F n K) k)) := m_ix1 pP hPG (Or.inr (by rw [ht]; exact t2))
    have i3 : m_index (sf τ 0 0) (nI k) 3 = some (nI (pbP (pK F n K) k)) := m_ix3 pP hPG (by rw [ht]; exact t2)
    refine ⟨if w = 1 then nI (paP (pK F n K) k) else nI (pbP (pK F n K) k), ?_, ?_⟩
    · rcases t2 with y | y | y
      · rw [if_neg (nb9 (by omega)), if_pos (b12 y.2), if_neg i10]
      · rw [if_neg (nb9 (by omega)), if_neg (nb12 (by omega)), if_neg (n15 (by omega)), if_pos (show nI t = (17 : Int32) by rw [y]; rfl), if_neg i10]
      · rw [if_neg (nb9 (by omega)), if_neg (nb12 (by omega)), if_neg (n15 (by omega)), if_neg (n17 (by omega)), if_pos (show nI t = (18 : Int32) by rw [y]; rfl), if_neg i10]
    · have e : (if nI w = (1 : Int32) then (m_index (sf τ 0 0) (nI k) (1 : Int32)).bind fun r1 => some (r1, sf τ 0 0) else (m_index (sf τ 0 0) (nI k) (3 : Int32)).bind fun r1 => some (r1, sf τ 0 0)) = some (if w = 1 then nI (paP (pK F n K) k) else nI (pbP (pK F n K) k), sf τ 0 0) := by
        rw [i1, i3, Option.bind_some, Option.bind_some]
        by_cases y : w = 1
        · rw [if_pos (w1.mpr y), if_pos y]
        · rw [if_neg (fun q => y (w1.mp q)), if_neg y]
      rw [if_neg (n15 (by omega)), if_neg (n7 (by omega)), if_neg (n8 (by omega)), if_neg (n16 (by omega)), if_neg (n19 (by omega)), if_neg (n20 (by omega)), e]
      rcases t2 with y | y | y
      · rw [if_neg (nb9 (by omega)), if_pos (b12 y.2)]
      · rw [if_neg (nb9 (by omega)), if_neg (nb12 (by omega)), if_pos (show nI t = (17 : Int32) by rw [y]; rfl)]
      · rw [if_neg (nb9 (by omega)), if_neg (nb12 (by omega)), if_neg (n17 (by omega)), if_pos (show nI t = (18 : Int32) by rw [y]; rfl)]
  by_cases t15 : t = 15
  · have i2 : m_index (sf τ 0 0) (nI k) 2 = some (nI (pbP (pK F n K) k)) := m_ix2 pP hPG (by rw [ht]; exact t15)
    have hi := hPG.in (i := k) (by rw [ht]; omega)
    have hs := hPG.sz (i := k) (by rw [ht]; omega)
    have h15 := (paP_15 (P := pK F n K) (i := k) (by rw [ht]; exact t15)).1
    have hes : esz (tgP (pK F n K) k) = 4 := by rw [ht, t15]; decide
    have hh := hs.2.1
    rw [hes] at hh
    have i1 : m_u1 (sf τ 0 0) ((sf τ 0 0).2 21 k + (1 : Int32)) = some (nI (paP (pK F n K) k)) := by
      rw [(pP.2.2 k hk).1, if_neg hi.2.2.1, nI_1, m_u1_ok pP.1.1 (by omega), h15]
    refine ⟨if w = 1 then nI (paP (pK F n K) k) else nI (pbP (pK F n K) k), ?_, ?_⟩
    · rw [if_neg (nb9 (by omega)), if_neg (nb12 (by omega)), if_pos (show nI t = (15 : Int32) by rw [t15]; rfl), if_neg i10]
    · rw [if_pos (show nI t = (15 : Int32) by rw [t15]; rfl), ckIn_n (by omega) (by omega), i1, i2, Option.bind_some, Option.bind_some]
      by_cases y : w = 1
      · rw [if_pos (w1.mpr y), if_pos y]
      · rw [if_neg (fun q => y (w1.mp q)), if_neg y]
  have hx55 : ∀ X : Option Int32, (if nI t < (9 : Int32) then X else if nI t ≤ (12 : Int32) then (if (1 : Int32) = 0 then X else some (if w = 1 then nI (paP (pK F n K) k) else nI (pbP (pK F n K) k))) else X) = X := fun X => by
    by_cases y : t < 9
    · rw [if_pos (b9 y)]
    · rw [if_neg (nb9 y), if_neg (nb12 (by omega))]
  by_cases t1 : oneT t
  · have i1 : m_index (sf τ 0 0) (nI k) 1 = some (nI (paP (pK F n K) k)) := m_ix1 pP hPG (Or.inl (by rw [ht]; exact t1))
    refine ⟨if w = 1 then nI (paP (pK F n K) k) else 0, ?_, ?_⟩
    · rw [if_neg (n15 (by omega)), if_neg (n17 (by omega)), if_neg (n18 (by omega)), if_pos rfl]
      rcases t1 with y | y | y | y | y
      · rw [if_pos (show nI t = (7 : Int32) by rw [y]; rfl)]
        rw [if_pos (b9 (by omega))]
      · rw [if_neg (n7 (by omega)), if_pos (show nI t = (8 : Int32) by rw [y]; rfl)]
        rw [if_pos (b9 (by omega))]
      · rw [if_neg (n7 (by omega)), if_neg (n8 (by omega)), if_pos (show nI t = (16 : Int32) by rw [y]; rfl)]
        rw [if_neg (nb9 (by omega)), if_neg (nb12 (by omega))]
      · rw [if_neg (n7 (by omega)), if_neg (n8 (by omega)), if_neg (n16 (by omega)), if_pos (show nI t = (19 : Int32) by rw [y]; rfl)]
        rw [if_neg (nb9 (by omega)), if_neg (nb12 (by omega))]
      · rw [if_neg (n7 (by omega)), if_neg (n8 (by omega)), if_neg (n16 (by omega)), if_neg (n19 (by omega)), if_pos (show nI t = (20 : Int32) by rw [y]; rfl)]
        rw [if_neg (nb9 (by omega)), if_neg (nb12 (by omega))]
    · have e : (if nI w = (1 : Int32) then (m_index (sf τ 0 0) (nI k) (1 : Int32)).bind fun r2 => some (r2, sf τ 0 0) else some ((0 : Int32), sf τ 0 0)) = some (if w = 1 then nI (paP (pK F n K) k) else 0, sf τ 0 0) := by
        rw [i1, Option.bind_some]
        by_cases y : w = 1
        · rw [if_pos (w1.mpr y), if_pos y]
        · rw [if_neg (fun q => y (w1.mp q)), if_neg y]
      rw [if_neg (n15 (by omega)), e]
      rcases t1 with y | y | y | y | y
      · rw [if_pos (show nI t = (7 : Int32) by rw [y]; rfl)]
      · rw [if_neg (n7 (by omega)), if_pos (show nI t = (8 : Int32) by rw [y]; rfl)]
      · rw [if_neg (n7 (by omega)), if_neg (n8 (by omega)), if_pos (show nI t = (16 : Int32) by rw [y]; rfl)]
      · rw [if_neg (n7 (by omega)), if_neg (n8 (by omega)), if_neg (n16 (by omega)), if_pos (show nI t = (19 : Int32) by rw [y]; rfl)]
      · rw [if_neg (n7 (by omega)), if_neg (n8 (by omega)), if_neg (n16 (by omega)), if_neg (n19 (by omega)), if_pos (show nI t = (20 : Int32) by rw [y]; rfl)]
  · refine ⟨0, ?_, ?_⟩
    · rw [if_neg (n15 t15), if_neg (n17 (by omega)), if_neg (n18 (by omega)), if_pos rfl, if_neg (n7 (by omega)), if_neg (n8 (by omega)), if_neg (n16 (by omega)), if_neg (n19 (by omega)), if_neg (n20 (by omega))]
      by_cases y : t < 9
      · rw [if_pos (b9 y)]
      · rw [if_neg (nb9 y), if_neg (nb12 (by omega))]
    · rw [if_neg (n15 t15), if_neg (n7 (by omega)), if_neg (n8 (by omega)), if_neg (n16 (by omega)), if_neg (n19 (by omega)), if_neg (n20 (by omega)), if_neg (n17 (by omega)), if_neg (n18 (by omega))]
      by_cases y : t < 9
      · rw [if_pos (b9 y)]
      · rw [if_neg (nb9 y), if_neg (nb12 (by omega))]
end Qry
