/-! a method's and a class's attributes: the twin -/
section MAtt2
set_option maxRecDepth 100000
variable {P : PD} {N fu : Nat} {S : Nat → List Nat} {σ : SM}
theorem m_a268 {v p x s : Nat} (h : mPo P N S σ) (g : PG P) (hv : v = 2 ∨ v = 7 ∨ v = 9) (hs : s < 2048) (hp : p + 2 + 2 * U2 P.1 p ≤ P.2.1) : ∀ d k f, k + d = U2 P.1 p → d < f → m_attribute_268L fu f σ (nI v) (nI p) (nI x) (nI s) (nI k) = ci (∀ i, k ≤ i → i < U2 P.1 p → tgP P (U2 P.1 (p + 2 + 2 * i)) = 7) (if v = 7 ∧ s.testBit 6 = true then some ((35 : Int32), σ) else m_attribute_349 fu σ (nI v) (nI p) (nI x)) (some (nI (if v = 2 then 32 else if v = 7 then 35 else 36), σ)) := by
  have hn := g.1
  have hu := U2_lt P.1 p
  intro d
  induction d with
  | zero =>
    intro k f hk hf
    obtain ⟨f, rfl⟩ : ∃ z9, f = z9 + 1 := ⟨f - 1, by omega⟩
    show m_attribute_268 fu (m_attribute_268L fu f) σ (nI v) (nI p) (nI x) (nI s) (nI k) = _
    unfold m_attribute_268
    rw [m_u2_ok h.1.1 (by omega), Option.bind_some, if_pos (nI_le (by omega) (by omega)), ci_t (fun i i1 i2 => by omega)]
    by_cases v7 : v = 7
    · rw [if_pos (show nI v = (7 : Int32) by rw [v7]; rfl)]
      by_cases hb : s.testBit 6 = true
      · rw [if_pos (show ((nI s >>> ((6 : Int32) &&& 31)) &&& (1 : Int32)) = (1 : Int32) from (bt1 (v := 6) (by omega) hs).mpr hb), if_pos ⟨v7, hb⟩]
      · rw [if_neg (show ¬ ((nI s >>> ((6 : Int32) &&& 31)) &&& (1 : Int32)) = (1 : Int32) from fun z => hb ((bt1 (v := 6) (by omega) hs).mp z)), if_neg (fun z => hb z.2)]
    · rw [if_neg (nL (k := 7) (by omega) (by omega) v7), if_neg (fun z => v7 z.1)]
  | succ d ih =>
    intro k f hk hf
    obtain ⟨f, rfl⟩ : ∃ z9, f = z9 + 1 := ⟨f - 1, by omega⟩
    have hu2 := U2_lt P.1 (p + 2 + 2 * k)
    have tl := tgP_lt P (U2 P.1 (p + 2 + 2 * k))
    show m_attribute_268 fu (m_attribute_268L fu f) σ (nI v) (nI p) (nI x) (nI s) (nI k) = _
    unfold m_attribute_268
    rw [m_u2_ok h.1.1 (by omega), Option.bind_some, if_neg (nI_ge (by omega) (by omega)), nI_2, show (2 : Int32) * nI k = nI (2 * k) from pk_mul 2 _, nI_add, m_u2_ok h.1.1 (by omega), Option.bind_some, m_tag_ok h g hu2, Option.bind_some, nx_eq, nI_1, ih (k + 1) f (by omega) (by omega)]
    by_cases ht : tgP P (U2 P.1 (p + 2 + 2 * k)) = 7
    · rw [if_pos (show nI (tgP P (U2 P.1 (p + 2 + 2 * k))) = (7 : Int32) by rw [ht]; rfl)]
      rw [show (∀ i, k ≤ i → i < U2 P.1 p → tgP P (U2 P.1 (p + 2 + 2 * i)) = 7) = (∀ i, k + 1 ≤ i → i < U2 P.1 p → tgP P (U2 P.1 (p + 2 + 2 * i)) = 7) from propext ⟨fun z i i1 i2 => z i (by omega) i2, fun z i i1 i2 => by
        rcases Nat.lt_or_ge k i with y | y
        · exact z i y i2
        · rw [show i = k by omega]
          exact ht⟩]
    · rw [if_neg (nL (k := 7) (by omega) (by omega) ht), ci_f (fun z => ht (z k (Nat.le_refl _) (by omega)))]
      rcases hv with rfl | rfl | rfl
      · rfl
      · rfl
      · rfl
theorem m_tab {p len r : Nat} {σ : SM} {k : Option (Int32 × SM)} (hF : mF P.1 P.2.1 σ) (hn : P.2.1 ≤ 1300) (hr : r ≤ 8) (hp : p + len ≤ P.2.1) : (if (nI (p + len) - nI p) < (2 : Int32) then some ((30 : Int32), σ) else (m_u2 σ (nI p)).bind fun r22 => if (nI (p + len) - nI p) = ((2 : Int32) + (nI r * r22)) then k else some ((30 : Int32), σ)) = if tabS P.1 p len r then k else some ((30 : Int32), σ) := by
  have hu := U2_lt P.1 p
  rw [pk_sub (by omega), show p + len - p = len by omega]
  unfold tabS
  by_cases h1 : len < 2
  · rw [if_pos (show nI len < (2 : Int32) from nI_lt (b := 2) (by omega) (by omega)), if_neg (by omega)]
  have hru : r * U2 P.1 p < 2 ^ 20 := by
    have := Nat.mul_le_mul hr (Nat.le_of_lt hu)
    omega
  rw [if_neg (show ¬ nI len < (2 : Int32) from nI_nlt (b := 2) (by omega) (by omega)), m_u2_ok hF (by omega), Option.bind_some, pk_mul, nI_add' 2]
  by_cases h2 : len = 2 + r * U2 P.1 p
  · rw [if_pos (by rw [← h2]), if_pos ⟨by omega, h2⟩]
  · rw [if_neg (fun w => h2 ((nI_eq (by omega) (by omega)).mp w)), if_neg (fun w => h2 w.2)]
/-- a list of classes -/
theorem m_cls {v p len pl x s : Nat} {α : Type} {L A : List Nat} {a' : α} {B : Prop} {Q : α → SM → Prop} (h : mPo P N S σ) (g : PG P) (hfu : 131072 < fu) (hv : v = 2 ∨ v = 7 ∨ v = 9) (hs : s < 2048) (hp : p + len ≤ P.2.1)
    (hB : v = 7 ∧ s.testBit 6 = true ↔ ¬ B) (ok : B → p + 2 ≤ P.2.1 → mAt L A pl (.ok a' : FE α) Q σ (m_attribute_349 fu σ (nI v) (nI p) (nI x))) :
    mAt L A pl (if tabS P.1 p len 2 then ci (clsP P p ∧ B) (.ok a') (.error ((if v = 2 then 32 else if v = 7 then 35 else 36), pl)) else .error (30, pl)) Q σ (if tabS P.1 p len 2 then m_attribute_265 fu σ (nI v) (nI p) (nI x) (nI s) else some ((30 : Int32), σ)) := by
  have hu := U2_lt P.1 p
  by_cases ht : tabS P.1 p len 2
  case neg =>
    rw [if_neg ht, if_neg ht]
    exact mAt.er (by omega)
  rw [if_pos ht, if_pos ht]
  unfold m_attribute_265
  have := ht.2
  rw [show m_attribute_268L fu fu σ (nI v) (nI p) (nI x) (nI s) (0 : Int32) = _ from m_a268 (x := x) h g hv hs (by omega) (U2 P.1 p) 0 fu (by omega) (by omega)]
  by_cases hc : clsP P p
  case neg =>
    rw [ci_f (P := ∀ i, 0 ≤ i → i < U2 P.1 p → tgP P (U2 P.1 (p + 2 + 2 * i)) = 7) hc, ci_f (fun w => hc w.1)]
    refine ⟨σ, mfr.rf, Or.inl ⟨rfl, rfl, ?_⟩⟩
    show 0 < (if v = 2 then 32 else if v = 7 then 35 else 36) ∧ (if v = 2 then 32 else if v = 7 then 35 else 36) < 100
    repeat' split
    all_goals omega
  rw [ci_t (P := ∀ i, 0 ≤ i → i < U2 P.1 p → tgP P (U2 P.1 (p + 2 + 2 * i)) = 7) hc]
  by_cases hb : B
  · rw [if_neg (fun w => (hB.mp w) hb), ci_t ⟨hc, hb⟩]
    exact ok hb (by omega)
  · have w := hB.mpr hb
    rw [if_pos w, ci_f (fun z => hb z.2), if_neg (by omega), if_pos w.1]
    exact mAt.er (by omega)
/-- a method's attributes -/
def mI1 (F : Nat → Int32) (x : Nat) (σ0 : SM) (a : Nat → Nat) (_ : Nat) (σ : SM) : Prop := (σ.2 43 x = nI (a 0) ∧ σ.2 44 x = nI (a 2) ∧ if a 3 = 0 then σ.2 37 x = -1 ∧ σ.2 38 x = 0 ∧ σ.2 39 x = 0 ∧ σ.2 40 x = 0 ∧ σ.2 42 x = 0 else mCd F x (a 3) σ) ∧ mNx [37, 38, 39, 40, 41, 42, 43, 44] x σ0 σ ∧ mfr [47, 48] [37, 38, 39, 40, 41, 42, 43, 44] σ0 σ
theorem mCd.fr {F : Nat → Int32} {x p : Nat} {σ σ' : SM} {L A : List Nat} (h : mCd F x p σ) (f : mfr L A σ σ') (hA : ∀ k, k ∈ cdA → k ∉ A) : mCd F x p σ' := by
  obtain ⟨a0, a1, a2, a3, a4, a5, a6⟩ := h
  refine ⟨a0, ?_, ?_, ?_, ?_, ?_, ?_⟩
  · rw [f.2 37 (hA 37 (by decide))]; exact a1
  · rw [f.2 38 (hA 38 (by decide))]; exact a2
  · rw [f.2 39 (hA 39 (by decide))]; exact a3
  · rw [f.2 40 (hA 40 (by decide))]; exact a4
  · rw [f.2 41 (hA 41 (by decide))]; exact a5
  · rw [f.2 42 (hA 42 (by decide))]; exact a6
theorem mI1.co {F : Nat → Int32} {x c : Nat} {σ σ' : SM} {L A : List Nat} (h : if c = 0 then σ.2 37 x = -1 ∧ σ.2 38 x = 0 ∧ σ.2 39 x = 0 ∧ σ.2 40 x = 0 ∧ σ.2 42 x = 0 else mCd F x c σ) (f : mfr L A σ σ') (hA : ∀ k, k ∈ cdA → k ∉ A) : if c = 0 then σ'.2 37 x = -1 ∧ σ'.2 38 x = 0 ∧ σ'.2 39 x = 0 ∧ σ'.2 40 x = 0 ∧ σ'.2 42 x = 0 else mCd F x c σ' := by
  by_cases z : c = 0
  · rw [if_pos z] at h ⊢
    rw [f.2 37 (hA 37 (by decide)), f.2 38 (hA 38 (by decide)), f.2 39 (hA 39 (by decide)), f.2 40 (hA 40 (by decide)), f.2 42 (hA 42 (by decide))]
    exact h
  · rw [if_neg z] at h ⊢
    exact h.fr f hA
theorem mStp1 {fl x : Nat} {fin : Prop} {d : List Nat} {c : Nat} {σ0 : SM} (g : PG P) (hfu : 131072 < fu) (hx : x < 8300) (h34 : σ0.2 34 x = nI fl) (h36 : ∃ s, s < N ∧ σ0.2 36 x = nI s ∧ S s = d) (hc : placesS d = some c) : mStp P N S fu 1 x fin fl d (npS d fl) [47, 48] [37, 38, 39, 40, 41, 42, 43, 44] (mI1 P.1 x σ0) := by
  have hn := g.1
  refine ⟨⟨by decide, by decide, fun _ _ f h => h.fr f (by decide) (by decide), fun _ _ f h => h.fr f (by decide) (by decide)⟩, ?_, ?_⟩
  · rintro a s σ ⟨⟨a1, a2, a5⟩, a3, a4⟩
    have f1 : mfr [47, 48] [37, 38, 39, 40, 41, 42, 43, 44] σ (sa σ 43 x (nI (a 0 + 1))) := mfr.sa (by decide)
    have f2 : mfr [] [43] σ (sa σ 43 x (nI (a 0 + 1))) := mfr.sa (by decide)
    refine ⟨sa σ 43 x (nI (a 0 + 1)), f1, ⟨⟨sa_eq, ?_, mI1.co a5 f2 (by decide)⟩, a3.tr mNx.sa, a4.tr f1⟩, fun k18 x4 x5 x6 x7 x8 w hw => ?_⟩
    · rw [sa_nk (by decide), a2]
      rfl
    · unfold kEnd m_checkAttributes_160 m_checkAttributes_175
      rw [if_neg hw, if_neg (show ¬ nI (1 + 1) = (1 : Int32) by decide), if_pos (show nI (1 + 1) = (2 : Int32) from rfl), ckIn_n hx (by omega), ckIn_n hx (by omega), nx_eq, nI_clamp (by omega), a1, xadd1, if_neg (show ¬ nI (1 + 1) = (4 : Int32) by decide)]
  · rintro a s σ w pl p len hs w1 w10 ⟨t, hw⟩ h hK ⟨⟨a1, a2, a5⟩, a3, a4⟩ hp1 hp hb
    obtain ⟨s', b1, b2, b3⟩ := h36
    have hD : mW d (nI s') σ := by rw [← b3]; exact h.2.1.1.mW b1
    have e34 : σ.2 34 x = nI fl := by rw [a4.2 34 (by decide)]; exact h34
    have e36 : σ.2 36 x = nI s' := by rw [a4.2 36 (by decide)]; exact b2
    have w23 : w = 2 ∨ w = 3 := by
      have := (knS_le (mjP P) 1 t).2.2.1 rfl
      omega
    rcases w23 with rfl | rfl
    · -- Code
      unfold atS
      rw [if_neg (by decide), if_pos rfl]
      have e : m_attribute fu σ (nI (2 - 1)) (nI pl) (nI p) (nI (p + len)) (nI x) (nI s) = ((m_code fu σ (nI pl) (nI p) (nI (p + len)) (nI x)).bind fun r => some (r.1, r.2)) := rfl
      rw [e]
      refine mAt.self ?_
      have hC := m_code_ok (x1 := nI pl) (pl := pl) h g hK hfu hx hp e36 hD hc e34
      have enp : npS d fl = c + if (nI fl &&& (8 : Int32)) = 0 then 1 else 0 := by
        unfold npS
        rw [hc]
        rfl
      rw [enp]
      refine mAt.map (hC.mo (L' := [47, 48]) (A' := [37, 38, 39, 40, 41, 42, 43, 44]) (Q' := fun _ σ' => mI1 P.1 x σ0 (uA a 3 p) (s ||| 2 ^ (2 - 1)) σ') (fun _ z => z) (by decide) (fun _ σ' _ w f => ?_)) (fun _ _ _ w _ => w)
      refine ⟨⟨?_, ?_, ?_⟩, a3.tr (fun k hk j hj => ?_), a4.tr (f.mo (fun _ z => z) (by decide))⟩
      · rw [f.2 43 (by decide), a1]
        rfl
      · rw [f.2 44 (by decide), a2]
        rfl
      · show if p = 0 then _ else mCd P.1 x p σ'
        rw [if_neg (by omega)]
        exact w.1
      · by_cases hk2 : k ∈ cdA
        · exact w.2 k hk2 j hj
        · rw [f.2 k hk2]
    · -- Exceptions
      unfold atS
      rw [if_neg (by decide), if_neg (by decide), if_pos rfl]
      have e : m_attribute fu σ (nI (3 - 1)) (nI pl) (nI p) (nI (p + len)) (nI x) (nI s) = (if (nI (p + len) - nI p) < (2 : Int32) then some ((30 : Int32), σ) else (m_u2 σ (nI p)).bind fun r22 => if (nI (p + len) - nI p) = ((2 : Int32) + (nI 2 * r22)) then m_attribute_265 fu σ (nI 2) (nI p) (nI x) (nI s) else some ((30 : Int32), σ)) := rfl
      rw [e, m_tab h.1.1 hn (by omega) hp]
      have f1 : mfr [47, 48] [37, 38, 39, 40, 41, 42, 43, 44] σ (sa σ 44 x (nI (U2 P.1 p))) := mfr.sa (by decide)
      have f2 : mfr [] [44] σ (sa σ 44 x (nI (U2 P.1 p))) := mfr.sa (by decide)
      have := m_cls (pl := pl) (x := x) (L := [47, 48]) (A := [37, 38, 39, 40, 41, 42, 43, 44]) (a' := uA a 2 (U2 P.1 p)) (B := True) (Q := fun a' σ' => mI1 P.1 x σ0 a' (s ||| 2 ^ (3 - 1)) σ') h g hfu (v := 2) (Or.inl rfl) hs hp ⟨fun z => absurd z.1 (by decide), fun z => absurd trivial z⟩ (fun _ hp2 => ⟨sa σ 44 x (nI (U2 P.1 p)), ?_, ⟨⟨?_, sa_eq, mI1.co a5 f2 (by decide)⟩, a3.tr mNx.sa, a4.tr f1⟩, f1⟩)
      · rw [show (clsP P p ∧ True) = clsP P p from propext (and_iff_left trivial)] at this
        exact this
      · unfold m_attribute_349 m_attribute_366 m_attribute_381
        rw [if_pos (show nI 2 = (2 : Int32) from rfl), m_u2_ok h.1.1 hp2, Option.bind_some, ckIn_n hx (by omega), nx_eq, nI_clamp (by omega), if_neg (show ¬ nI 2 = (7 : Int32) by decide), if_neg (show ¬ nI 2 = (9 : Int32) by decide)]
      · rw [sa_nk (by decide), a1]
        rfl
/-- InnerClasses -/
theorem m_a431 {p : Nat} (h : mPo P N S σ) (g : PG P) (hp : p + 2 + 8 * U2 P.1 p ≤ P.2.1) : ∀ d k f, k + d = U2 P.1 p → d < f → m_attribute_431L fu f σ (nI p) (nI k) = ci (∀ i, k ≤ i → i < U2 P.1 p → inP P p i) (some ((0 : Int32), sf σ 65 (nI (U2 P.1 p)))) (some ((33 : Int32), σ)) := by
  have hn := g.1
  have hu := U2_lt P.1 p
  intro d
  induction d with
  | zero =>
    intro k f hk hf
    obtain ⟨f, rfl⟩ : ∃ z9, f = z9 + 1 := ⟨f - 1, by omega⟩
    show m_attribute_431 fu (m_attribute_431L fu f) σ (nI p) (nI k) = _
    unfold m_attribute_431
    rw [m_u2_ok h.1.1 (by omega), Option.bind_some, if_pos (nI_le (by omega) (by omega)), ci_t (fun i i1 i2 => by omega), Option.bind_some, nx_eq]
  | succ d ih =>
    intro k f hk hf
    obtain ⟨f, rfl⟩ : ∃ z9, f = z9 + 1 := ⟨f - 1, by omega⟩
    show m_attribute_431 fu (m_attribute_431L fu f) σ (nI p) (nI k) = _
    unfold m_attribute_431 m_attribute_495 m_attribute_525
    have hk8 : p + 2 + 8 * k + 8 ≤ P.2.1 := by omega
    rw [m_u2_ok h.1.1 (by omega), Option.bind_some, if_neg (nI_ge (by omega) (by omega)), nI_2, show (8 : Int32) * nI k = nI (8 * k) from pk_mul 8 _, nI_add, nx_eq, nx_eq, nI_1, ih (k + 1) f (by omega) (by omega)]
    have good : inP P p k → ci (∀ i, k + 1 ≤ i → i < U2 P.1 p → inP P p i) (some ((0 : Int32), sf σ 65 (nI (U2 P.1 p)))) (some ((33 : Int32), σ)) = ci (∀ i, k ≤ i → i < U2 P.1 p → inP P p i) (some ((0 : Int32), sf σ 65 (nI (U2 P.1 p)))) (some ((33 : Int32), σ)) := fun w => by
      rw [show (∀ i, k ≤ i → i < U2 P.1 p → inP P p i) = (∀ i, k + 1 ≤ i → i < U2 P.1 p → inP P p i) from propext ⟨fun z i i1 i2 => z i (by omega) i2, fun z i i1 i2 => by
        rcases Nat.lt_or_ge k i with y | y
        · exact z i y i2
        · rw [show i = k by omega]
          exact w⟩]
    have bad : ¬ inP P p k → some ((33 : Int32), σ) = ci (∀ i, k ≤ i → i < U2 P.1 p → inP P p i) (some ((0 : Int32), sf σ 65 (nI (U2 P.1 p)))) (some ((33 : Int32), σ)) := fun w => by
      rw [ci_f (fun z => w (z k (Nat.le_refl _) (by omega)))]
    unfold inP at good bad
    unfold inP
    generalize hs : p + 2 + 8 * k = s at *
    have u0 := U2_lt P.1 s
    have u2 := U2_lt P.1 (s + 2)
    have u4 := U2_lt P.1 (s + 4)
    have t0 := tgP_lt P (U2 P.1 s)
    have t2 := tgP_lt P (U2 P.1 (s + 2))
    have t4 := tgP_lt P (U2 P.1 (s + 4))
    rw [m_u2_ok h.1.1 (by omega), Option.bind_some, m_tag_ok h g u0, Option.bind_some]
    by_cases r1 : tgP P (U2 P.1 s) = 7
    case neg =>
      rw [if_neg (nL (k := 7) (by omega) (by omega) r1)]
      exact bad (fun z => r1 z.1)
    rw [if_pos (show nI (tgP P (U2 P.1 s)) = (7 : Int32) by rw [r1]; rfl), nI_2, nI_4, m_u2_ok h.1.1 (by omega), Option.bind_some, Option.bind_some, m_tag_ok h g u2, Option.bind_some, m_u2_ok h.1.1 (by omega), Option.bind_some, Option.bind_some, m_tag_ok h g u4, Option.bind_some]
    have tail : (U2 P.1 (s + 2) = 0 ∨ tgP P (U2 P.1 (s + 2)) = 7) → (if nI (U2 P.1 (s + 4)) = 0 then ci (∀ i, k + 1 ≤ i → i < U2 P.1 p → tgP P (U2 P.1 (p + 2 + 8 * i)) = 7 ∧ (U2 P.1 (p + 2 + 8 * i + 2) = 0 ∨ tgP P (U2 P.1 (p + 2 + 8 * i + 2)) = 7) ∧ (U2 P.1 (p + 2 + 8 * i + 4) = 0 ∨ tgP P (U2 P.1 (p + 2 + 8 * i + 4)) = 1)) (some ((0 : Int32), sf σ 65 (nI (U2 P.1 p)))) (some ((33 : Int32), σ)) else if nI (tgP P (U2 P.1 (s + 4))) = (1 : Int32) then ci (∀ i, k + 1 ≤ i → i < U2 P.1 p → tgP P (U2 P.1 (p + 2 + 8 * i)) = 7 ∧ (U2 P.1 (p + 2 + 8 * i + 2) = 0 ∨ tgP P (U2 P.1 (p + 2 + 8 * i + 2)) = 7) ∧ (U2 P.1 (p + 2 + 8 * i + 4) = 0 ∨ tgP P (U2 P.1 (p + 2 + 8 * i + 4)) = 1)) (some ((0 : Int32), sf σ 65 (nI (U2 P.1 p)))) (some ((33 : Int32), σ)) else some ((33 : Int32), σ)) = ci (∀ i, k ≤ i → i < U2 P.1 p → tgP P (U2 P.1 (p + 2 + 8 * i)) = 7 ∧ (U2 P.1 (p + 2 + 8 * i + 2) = 0 ∨ tgP P (U2 P.1 (p + 2 + 8 * i + 2)) = 7) ∧ (U2 P.1 (p + 2 + 8 * i + 4) = 0 ∨ tgP P (U2 P.1 (p + 2 + 8 * i + 4)) = 1)) (some ((0 : Int32), sf σ 65 (nI (U2 P.1 p)))) (some ((33 : Int32), σ)) := fun w => by
      by_cases r4 : U2 P.1 (s + 4) = 0
      · rw [if_pos (show nI (U2 P.1 (s + 4)) = 0 by rw [r4]; rfl)]
        exact good ⟨r1, w, Or.inl r4⟩
      rw [if_neg (nL (k := 0) (by omega) (by omega) r4)]
      by_cases r5 : tgP P (U2 P.1 (s + 4)) = 1
      · rw [if_pos (show nI (tgP P (U2 P.1 (s + 4))) = (1 : Int32) by rw [r5]; rfl)]
        exact good ⟨r1, w, Or.inr r5⟩
      · rw [if_neg (nL (k := 1) (by omega) (by omega) r5)]
        exact bad (fun z => z.2.2.elim r4 r5)
    by_cases r2 : U2 P.1 (s + 2) = 0
    · rw [if_pos (show nI (U2 P.1 (s + 2)) = 0 by rw [r2]; rfl)]
      exact tail (Or.inl r2)
    rw [if_neg (nL (k := 0) (by omega) (by omega) r2)]
    by_cases r3 : tgP P (U2 P.1 (s + 2)) = 7
    · rw [if_pos (show nI (tgP P (U2 P.1 (s + 2))) = (7 : Int32) by rw [r3]; rfl)]
      exact tail (Or.inr r3)
    · rw [if_neg (nL (k := 7) (by omega) (by omega) r3)]
      exact bad (fun z => z.2.1.elim r2 r3)
end MAtt2
