/-! attributes of code: the component -/
section XAt2
set_option maxRecDepth 100000
variable {P : PD} {x0 c lo hd fa fu : Nat} {N : Nat → Prop} {σ : GS}
theorem xQ.at6 {v : Int32} (h : xQ P x0 c lo N hd fa σ) : xQ P x0 c lo N hd fa (gpi σ x0 6 v) :=
  h.fr (W := wx x0) (Fq.pi ⟨rfl, by omega⟩) (fun _ _ _ z => Or.inl z) (h.2.2.2.pk (by decide))
theorem snn {a : Nat} : ¬ (some a : Option Nat) = none := fun z => by cases z
theorem x_ta_no {e : Nat} (h : xPc P c lo N σ) (g : PG P) (he : e < 65536) (ht : ¬ tgP P e = 1) : x_textAt σ c (nI e) = some none := by
  rw [x_textAt_ok h g he, if_neg ht]
theorem x_ta_yes {e : Nat} (h : xPc P c lo N σ) (g : PG P) (he : e < 65536) (ht : tgP P e = 1) : ∃ t, x_textAt σ c (nI e) = some (some t) ∧ sS (txP P e) t σ := by
  obtain ⟨t, t1, t2⟩ := x_text h g ht
  exact ⟨t, by rw [x_textAt_ok h g he, if_pos ht, t1], t2⟩
theorem tb_ne {s v u : Nat} (h : u ≠ v) : (s ||| 2 ^ v).testBit u = s.testBit u := by
  rw [Nat.testBit_or, Nat.testBit_two_pow, show decide (v = u) = false from decide_eq_false (fun z => h z.symm), Bool.or_false]
theorem tb_eq {s v : Nat} : (s ||| 2 ^ v).testBit v = true := by
  rw [Nat.testBit_or, Nat.testBit_two_pow, show decide (v = v) = true from decide_eq_true rfl, Bool.or_true]
theorem x_atn {m q C S : Nat} (g : PG P) (hfu : 131072 < fu) : ∀ k f p i (s : Bool) sx σ, k < f → i + k < 70000 → sx < 2048 → sx.testBit 4 = s → xQ P x0 c lo N hd fa σ → gi σ x0 6 = nI p → skA P.1 P.2.1 k p = .ok q → p ≤ P.2.1 → C ≤ gc σ → S ≤ gs σ →
    xC x0 (wx x0) C S (atN P k p s) (fun _ σ' => Z8 x0 σ' ∧ gi σ' x0 6 = nI q ∧ gc σ' = gc σ ∧ gs σ' = gs σ ∧ gx σ' = gx σ) σ (x_attributes_b_12L fu f σ x0 c (2 : Int32) none (some m) (nI (i + k)) (nI sx) (nI i)) := by
  have hn := g.1
  intro k
  induction k with
  | zero =>
    intro f p i s sx σ hf hi hsx hs hQ h6 hq hp hC hS
    obtain ⟨f, rfl⟩ : ∃ z9, f = z9 + 1 := ⟨f - 1, by omega⟩
    show xC _ _ _ _ _ _ _ (x_attributes_b_12 fu (x_attributes_b_12L fu f) σ x0 c (2 : Int32) none (some m) (nI (i + 0)) (nI sx) (nI i))
    cases hq
    unfold x_attributes_b_12
    rw [if_pos (nI_le (by omega) (by omega))]
    exact xC.ok ⟨hQ.2.2.2, h6, rfl, rfl, rfl⟩
  | succ k ih =>
    intro f p i s sx σ hf hi hsx hs hQ h6 hq hp hC hS
    obtain ⟨f, rfl⟩ : ∃ z9, f = z9 + 1 := ⟨f - 1, by omega⟩
    show xC _ _ _ _ _ _ _ (x_attributes_b_12 fu (x_attributes_b_12L fu f) σ x0 c (2 : Int32) none (some m) (nI (i + (k + 1))) (nI sx) (nI i))
    obtain ⟨hb, hq⟩ := skA_su hq
    have hF := hQ.2.1.2.1
    have hx := hF.1
    have h8 := hQ.2.2.2
    have hc := hQ.2.1.1
    have hu := U2_lt P.1 p
    unfold x_attributes_b_12 atN
    rw [if_neg (nI_ge (by omega) (by omega)), ckT_ok hx, nx_eq, h6, x_u2_ok hF (by omega), Option.bind_some]
    by_cases ht : tgP P (U2 P.1 p) = 1
    case neg =>
      rw [x_ta_no hc g hu ht, Option.bind_some, if_pos rfl, if_neg ht, show (28 : Int32) = nI 28 from rfl, x_wrong_ok hx h8, Option.bind_some, ckN_0]
      exact xC.er (fun _ _ z => z) hC hS
    obtain ⟨t, t1, t2⟩ := x_ta_yes hc g hu ht
    rw [if_pos ht, t1, Option.bind_some, if_neg snn, nI_2, x_u4_ok hF (by omega), Option.bind_some, ckR_ok, show (2 : Int32) = nI 2 from rfl, x_known_ok (wh := 2) hc hQ.2.2.1 hfu (by omega) t2, Option.bind_some]
    -- on to the next
    have nxt : ∀ (s' : Bool) sx', sx' < 2048 → sx'.testBit 4 = s' → xC x0 (wx x0) C S (atN P k (p + 6 + U4 P.1 (p + 2)) s') (fun _ σ' => Z8 x0 σ' ∧ gi σ' x0 6 = nI q ∧ gc σ' = gc σ ∧ gs σ' = gs σ ∧ gx σ' = gx σ) σ (x_attributes_b_193 fu (x_attributes_b_12L fu f) σ x0 c (nI 2) none (some m) (nI (i + (k + 1))) (nI sx') (nI i) (nI p) (nI (U4 P.1 (p + 2)))) := by
      intro s' sx' h1 h2
      unfold x_attributes_b_193
      rw [ckT_ok hx, nx_eq, nx_eq, nI_1, nI_6, nI_add]
      have f1 : Fq (wx x0) σ (gpi σ x0 6 (nI (p + 6 + U4 P.1 (p + 2)))) := Fq.pi ⟨rfl, by omega⟩
      refine xC.fr f1 ?_
      have := ih f (p + 6 + U4 P.1 (p + 2)) (i + 1) s' sx' (gpi σ x0 6 (nI (p + 6 + U4 P.1 (p + 2)))) (by omega) (by omega) h1 h2 hQ.at6 gi_gpi_eq hq hb (by rw [gc_gpi]; exact hC) (by rw [gs_gpi]; exact hS)
      rw [show i + 1 + k = i + (k + 1) by omega] at this
      refine this.mo (fun _ _ _ z => z) (Nat.le_refl _) (Nat.le_refl _) (fun _ σ' _ w _ => ⟨w.1, w.2.1, w.2.2.1.trans gc_gpi, w.2.2.2.1.trans gs_gpi, w.2.2.2.2.trans gx_gpi⟩)
    have hw := (knS_le (mjP P) 2 (txP P (U2 P.1 p))).2.2.2.1 rfl
    generalize knS (mjP P) 2 (txP P (U2 P.1 p)) = w at hw
    by_cases w0 : w = 0
    · subst w0
      have e : nI sx ||| ((1 : Int32) <<< (nI 0 &&& 31)) = nI (sx ||| 2 ^ 0) := bt2 (by omega)
      rw [if_pos (show nI 0 ≤ 0 by decide), if_pos (show (0 : Nat) = 0 from rfl)]
      unfold x_attributes_b_95 x_attributes_b_123 x_attributes_b_144 x_attributes_b_164
      rw [nx_eq, e, if_pos (show nI 0 ≤ 0 by decide), if_pos (show nI 0 ≤ 0 by decide), if_pos (show nI 0 ≤ 0 by decide), if_pos (show nI 0 ≤ 0 by decide)]
      exact nxt s _ (bt3 hsx (by omega)) ((tb_ne (by omega)).trans hs)
    obtain rfl : w = 4 := by omega
    rw [if_neg (show ¬ nI 4 ≤ 0 by decide), if_neg (show ¬ (4 : Nat) = 0 by omega)]
    by_cases hb4 : sx.testBit 4 = true
    · rw [if_pos ((bt1 (by omega) hsx).mpr hb4), if_pos (hs.symm.trans hb4), show (29 : Int32) = nI 29 from rfl, x_wrong_ok hx h8, Option.bind_some, ckN_0]
      exact xC.er (fun _ _ z => z) hC hS
    · have e : nI sx ||| ((1 : Int32) <<< (nI 4 &&& 31)) = nI (sx ||| 2 ^ 4) := bt2 (by omega)
      have e4 : ∀ x3 x4 x5 : Int32, x_attribute_b fu σ x0 c (nI 4) x3 x4 x5 none (some m) = some (1, σ) := fun _ _ _ => rfl
      rw [if_neg (fun z => hb4 ((bt1 (by omega) hsx).mp z)), if_neg (fun z => hb4 (hs.trans z))]
      unfold x_attributes_b_95 x_attributes_b_123 x_attributes_b_144 x_attributes_b_164
      rw [nx_eq, e, if_neg (show ¬ nI 4 ≤ 0 by decide), if_neg (show ¬ nI 2 = 0 by decide), if_neg (show ¬ nI 4 ≤ 0 by decide), if_neg (show ¬ nI 2 = (1 : Int32) by decide), if_neg (show ¬ nI 4 ≤ 0 by decide), if_neg (show ¬ nI 2 = (3 : Int32) by decide), if_neg (show ¬ nI 4 ≤ 0 by decide), ckT_ok hx, e4, Option.bind_some, if_neg i10]
      exact nxt true _ (bt3 hsx (by omega)) tb_eq
theorem x_atn_ok {m p q C S : Nat} (g : PG P) (hfu : 131072 < fu) (hQ : xQ P x0 c lo N hd fa σ) (h6 : gi σ x0 6 = nI p) (hp : p + 2 ≤ P.2.1) (hq : skA P.1 P.2.1 (U2 P.1 p) (p + 2) = .ok q) (hC : C ≤ gc σ) (hS : S ≤ gs σ) :
    xC x0 (wx x0) C S (atN P (U2 P.1 p) (p + 2) false) (fun _ σ' => Z8 x0 σ' ∧ gi σ' x0 6 = nI q ∧ gc σ' = gc σ ∧ gs σ' = gs σ ∧ gx σ' = gx σ) σ (x_attributes_b fu σ x0 c (2 : Int32) none (some m)) := by
  have hn := g.1
  have hu := U2_lt P.1 p
  unfold x_attributes_b x_attributes_b_0
  have hA : xA P.1 P.2.1 x0 p σ := ⟨hQ.2.1.2.1, h6, hQ.2.2.2⟩
  rw [ckT_ok hQ.2.1.2.1.1, x_next2_ok hA (by omega) (by omega), if_neg (by omega), Option.bind_some]
  have f1 : Fq (wx x0) σ (gpi σ x0 6 (nI (p + 2))) := Fq.pi ⟨rfl, by omega⟩
  refine xC.fr f1 ?_
  have := x_atn (m := m) (fu := fu) (C := C) (S := S) g hfu (U2 P.1 p) fu (p + 2) 0 false 0 (gpi σ x0 6 (nI (p + 2))) (by omega) (by omega) (by omega) (by decide) hQ.at6 gi_gpi_eq hq (by omega) (by rw [gc_gpi]; exact hC) (by rw [gs_gpi]; exact hS)
  rw [Nat.zero_add] at this
  exact this.mo (fun _ _ _ z => z) (Nat.le_refl _) (Nat.le_refl _) (fun _ σ' _ w _ => ⟨w.1, w.2.1, w.2.2.1.trans gc_gpi, w.2.2.2.1.trans gs_gpi, w.2.2.2.2.trans gx_gpi⟩)
end XAt2
