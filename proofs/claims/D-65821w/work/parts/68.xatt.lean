/-! attributes: the component's loop -/
section XAtt
set_option maxRecDepth 100000
def seeR (sx s : Nat) : Prop := ∀ u, 1 ≤ u → sx.testBit u = s.testBit (u - 1)
theorem seeR.z {sx s : Nat} (h : seeR sx s) : seeR (sx ||| 2 ^ 0) s := fun u hu => (tb_ne (by omega)).trans (h u hu)
theorem seeR.w {sx s w : Nat} (h : seeR sx s) (hw : 1 ≤ w) : seeR (sx ||| 2 ^ w) (s ||| 2 ^ (w - 1)) := by
  intro u hu
  by_cases e : u = w
  · rw [e, tb_eq, tb_eq]
  · rw [tb_ne e, tb_ne (by omega)]
    exact h u hu
variable {P : PD} {x0 c lo hd fa fu : Nat} {N : Nat → Prop}
/-- what an owner's attributes are to give, step by step -/
def xStp (P : PD) (x0 c lo : Nat) (N : Nat → Prop) (hd fa fu wh : Nat) (f m : Option Nat) (fin : Prop) (fl : Nat) (d : List Nat) (np : Nat) (W : Nat → Nat → Prop) (I : (Nat → Nat) → GS → Prop) : Prop :=
  (∀ a j, wx x0 a j → W a j) ∧ (∀ a j, W a j → wk x0 c N a j) ∧
  (∀ a σ v, xQ P x0 c lo N hd fa σ → I a σ → I a (gpi σ x0 6 v)) ∧
  (∀ a σ, xQ P x0 c lo N hd fa σ → I a σ → ∃ σ1, (Fq W σ σ1 ∧ Z8 x0 σ1 ∧ gc σ1 = gc σ ∧ gs σ1 = gs σ ∧ gx σ1 = gx σ) ∧ I (uA a 0 (a 0 + 1)) σ1 ∧ ∀ k12 x5 x6 x7 x8 x10 w, 1 ≤ w → w < 11 → x_attributes_95 fu k12 σ x0 c (nI wh) f m x5 x6 x7 x8 x10 (nI w) = x_attributes_164 fu k12 σ1 x0 c (nI wh) f m x5 (x6 ||| ((1 : Int32) <<< (nI w &&& 31))) x7 x8 x10 (nI w)) ∧
  (∀ a σ w pl p len C S, 1 ≤ w → w ≤ 10 → (∃ t, w = knS (mjP P) wh t) → xQ P x0 c lo N hd fa σ → (∀ b, N b → b < gx σ) → I a σ → 1 ≤ p → p + len ≤ P.2.1 → C + len + 2 ≤ gc σ → S + 2 * len ≤ gs σ → xC x0 W C S (atS P fin fl d np w pl p len a) (fun a' σ' => I a' σ' ∧ Z8 x0 σ' ∧ C ≤ gc σ' ∧ S ≤ gs σ') σ (x_attribute fu σ x0 c (nI w) (nI pl) (nI p) (nI len) f m))
theorem x_att {wh fl np C S q : Nat} {f m : Option Nat} {fin : Prop} {d : List Nat} {W : Nat → Nat → Prop} {I : (Nat → Nat) → GS → Prop} (g : PG P) (hfu : 131072 < fu) (hwh : wh ≤ 3) (hS : xStp P x0 c lo N hd fa fu wh f m fin fl d np W I) : ∀ k fz p i s sx a σ, k < fz → i + k < 70000 → sx < 2048 → seeR sx s → xQ P x0 c lo N hd fa σ → (∀ b, N b → b < gx σ) → I a σ → gi σ x0 6 = nI p → skA P.1 P.2.1 k p = .ok q → p ≤ P.2.1 → C + (P.2.1 - p) ≤ gc σ → S + 2 * (P.2.1 - p) ≤ gs σ →
    xC x0 W C S (attsS P wh fin fl d np k p s a) (fun a' σ' => I a' σ' ∧ Z8 x0 σ' ∧ gi σ' x0 6 = nI q ∧ C + (P.2.1 - q) ≤ gc σ' ∧ S + 2 * (P.2.1 - q) ≤ gs σ') σ (x_attributes_12L fu fz σ x0 c (nI wh) f m (nI (i + k)) (nI sx) (nI i)) := by
  have hn := g.1
  obtain ⟨hW, hWk, h6I, hinc, hat⟩ := hS
  intro k
  induction k with
  | zero =>
    intro fz p i s sx a σ hf hi hsx hs hQ hNx hI h6 hq hp hC hS
    obtain ⟨fz, rfl⟩ : ∃ z9, fz = z9 + 1 := ⟨fz - 1, by omega⟩
    show xC _ _ _ _ _ _ _ (x_attributes_12 fu (x_attributes_12L fu fz) σ x0 c (nI wh) f m (nI (i + 0)) (nI sx) (nI i))
    cases hq
    unfold x_attributes_12
    rw [if_pos (nI_le (by omega) (by omega))]
    exact xC.ok ⟨hI, hQ.2.2.2, h6, hC, hS⟩
  | succ k ih =>
    intro fz p i s sx a σ hf hi hsx hs hQ hNx hI h6 hq hp hC hS
    obtain ⟨fz, rfl⟩ : ∃ z9, fz = z9 + 1 := ⟨fz - 1, by omega⟩
    show xC _ _ _ _ _ _ _ (x_attributes_12 fu (x_attributes_12L fu fz) σ x0 c (nI wh) f m (nI (i + (k + 1))) (nI sx) (nI i))
    obtain ⟨hb, hq⟩ := skA_su hq
    have hF := hQ.2.1.2.1
    have hx := hF.1
    have h8 := hQ.2.2.2
    have hc := hQ.2.1.1
    have hu := U2_lt P.1 p
    unfold x_attributes_12 attsS
    rw [if_neg (nI_ge (by omega) (by omega)), ckT_ok hx, nx_eq, h6, x_u2_ok hF (by omega), Option.bind_some]
    by_cases ht : tgP P (U2 P.1 p) = 1
    case neg =>
      rw [x_ta_no hc g hu ht, Option.bind_some, if_pos rfl, if_neg ht, show (28 : Int32) = nI 28 from rfl, x_wrong_ok hx h8, Option.bind_some, ckN_0]
      exact xC.er hW (by omega) (by omega)
    obtain ⟨t, t1, t2⟩ := x_ta_yes hc g hu ht
    rw [if_pos ht, t1, Option.bind_some, if_neg snn, nI_2, x_u4_ok hF (by omega), Option.bind_some, ckR_ok, x_known_ok hc hQ.2.2.1 hfu hwh t2, Option.bind_some]
    -- on to the next
    have nxt : ∀ s' sx' a' σ', sx' < 2048 → seeR sx' s' → xQ P x0 c lo N hd fa σ' → (∀ b, N b → b < gx σ') → I a' σ' → C + (P.2.1 - (p + 6 + U4 P.1 (p + 2))) ≤ gc σ' → S + 2 * (P.2.1 - (p + 6 + U4 P.1 (p + 2))) ≤ gs σ' → xC x0 W C S (attsS P wh fin fl d np k (p + 6 + U4 P.1 (p + 2)) s' a') (fun a' σ' => I a' σ' ∧ Z8 x0 σ' ∧ gi σ' x0 6 = nI q ∧ C + (P.2.1 - q) ≤ gc σ' ∧ S + 2 * (P.2.1 - q) ≤ gs σ') σ' (x_attributes_193 fu (x_attributes_12L fu fz) σ' x0 c (nI wh) f m (nI (i + (k + 1))) (nI sx') (nI i) (nI p) (nI (U4 P.1 (p + 2)))) := by
      intro s' sx' a' σ' h1 h2 h3 h3n h4 h5 h6
      unfold x_attributes_193
      rw [ckT_ok h3.2.1.2.1.1, nx_eq, nx_eq, nI_1, nI_6, nI_add]
      have f1 : Fq W σ' (gpi σ' x0 6 (nI (p + 6 + U4 P.1 (p + 2)))) := Fq.pi (hW _ _ ⟨rfl, by omega⟩)
      refine xC.fr f1 ?_
      have := ih fz (p + 6 + U4 P.1 (p + 2)) (i + 1) s' sx' a' (gpi σ' x0 6 (nI (p + 6 + U4 P.1 (p + 2)))) (by omega) (by omega) h1 h2 h3.at6 (fun b z => by rw [gx_gpi]; exact h3n b z) (h6I _ _ _ h3 h4) gi_gpi_eq hq hb (by rw [gc_gpi]; exact h5) (by rw [gs_gpi]; exact h6)
      rw [show i + 1 + k = i + (k + 1) by omega] at this
      exact this
    have hw := (knS_le (mjP P) wh (txP P (U2 P.1 p))).1
    have hwt : ∃ t, knS (mjP P) wh (txP P (U2 P.1 p)) = knS (mjP P) wh t := ⟨_, rfl⟩
    generalize knS (mjP P) wh (txP P (U2 P.1 p)) = w at *
    by_cases w0 : w = 0
    · subst w0
      have e : nI sx ||| ((1 : Int32) <<< (nI 0 &&& 31)) = nI (sx ||| 2 ^ 0) := bt2 (by omega)
      rw [if_pos (show nI 0 ≤ 0 by decide), if_pos (show (0 : Nat) = 0 from rfl)]
      unfold x_attributes_95 x_attributes_123 x_attributes_144 x_attributes_164
      rw [nx_eq, e, if_pos (show nI 0 ≤ 0 by decide), if_pos (show nI 0 ≤ 0 by decide), if_pos (show nI 0 ≤ 0 by decide), if_pos (show nI 0 ≤ 0 by decide)]
      exact nxt s _ a σ (bt3 hsx (by omega)) hs.z hQ hNx hI (by omega) (by omega)
    rw [if_neg (show ¬ nI w ≤ 0 from nI_ge (a := 0) (by omega) (by omega)), if_neg w0]
    by_cases hb4 : sx.testBit w = true
    · rw [if_pos ((bt1 (by omega) hsx).mpr hb4), if_pos ((hs w (by omega)).symm.trans hb4), show (29 : Int32) = nI 29 from rfl, x_wrong_ok hx h8, Option.bind_some, ckN_0]
      exact xC.er hW (by omega) (by omega)
    have e : nI sx ||| ((1 : Int32) <<< (nI w &&& 31)) = nI (sx ||| 2 ^ w) := bt2 (by omega)
    rw [if_neg (fun z => hb4 ((bt1 (by omega) hsx).mp z)), if_neg (fun z => hb4 ((hs w (by omega)).trans z))]
    obtain ⟨σ1, ⟨f1, h81, c1, s1, x1⟩, hI1, e95⟩ := hinc a σ hQ hI
    have Q1 := hQ.fr f1 (fun a j _ z => hWk a j z) h81
    rw [e95 _ _ _ _ _ _ w (by omega) (by omega), e]
    unfold x_attributes_164
    rw [if_neg (show ¬ nI w ≤ 0 from nI_ge (a := 0) (by omega) (by omega)), ckT_ok Q1.2.1.2.1.1, nI_6]
    refine xC.fr f1 ?_
    have hA := hat (uA a 0 (a 0 + 1)) σ1 w p (p + 6) (U4 P.1 (p + 2)) (C + (P.2.1 - (p + 6 + U4 P.1 (p + 2)))) (S + 2 * (P.2.1 - (p + 6 + U4 P.1 (p + 2)))) (by omega) hw hwt Q1 (fun b z => by have := hNx b z; omega) hI1 (by omega) hb (by omega) (by omega)
    revert hA
    cases atS P fin fl d np w p (p + 6) (U4 P.1 (p + 2)) (uA a 0 (a 0 + 1)) with
    | error er =>
      rintro ⟨σ2, b1, b2, b3, b4, b5⟩
      rw [b1, Option.bind_some, if_pos rfl]
      exact ⟨σ2, rfl, b2, b3, by omega, by omega⟩
    | ok a2 =>
      rintro ⟨σ2, b1, ⟨b2, b3, b4, b5⟩, b6⟩
      rw [b1, Option.bind_some, if_neg i10, eb_ok]
      refine xC.fr b6 ?_
      exact nxt _ _ a2 σ2 (bt3 hsx (by omega)) (hs.w (by omega)) (Q1.fr b6 (fun a j _ z => hWk a j z) b3) (fun b z => by have := hNx b z; have := b6.1; omega) b2 b4 b5
theorem x_att_ok {wh fl np C S p q : Nat} {f m : Option Nat} {fin : Prop} {d : List Nat} {W : Nat → Nat → Prop} {I : (Nat → Nat) → GS → Prop} {a : Nat → Nat} {σ : GS} (g : PG P) (hfu : 131072 < fu) (hwh : wh ≤ 3) (hS : xStp P x0 c lo N hd fa fu wh f m fin fl d np W I) (hQ : xQ P x0 c lo N hd fa σ) (hNx : ∀ b, N b → b < gx σ) (hI : I a σ) (h6 : gi σ x0 6 = nI p) (hq : attrS P.1 P.2.1 p = .ok q) (hC : C + (P.2.1 - p) ≤ gc σ) (hSS : S + 2 * (P.2.1 - p) ≤ gs σ) :
    xC x0 W C S (attsS P wh fin fl d np (U2 P.1 p) (p + 2) 0 a) (fun a' σ' => I a' σ' ∧ Z8 x0 σ' ∧ gi σ' x0 6 = nI q ∧ C + (P.2.1 - q) ≤ gc σ' ∧ S + 2 * (P.2.1 - q) ≤ gs σ') σ (x_attributes fu σ x0 c (nI wh) f m) := by
  have hn := g.1
  have hu := U2_lt P.1 p
  unfold attrS at hq
  obtain ⟨_, h1, hq⟩ := eb_inv hq
  have h1 := itS_ok h1
  unfold x_attributes x_attributes_0
  have hA : xA P.1 P.2.1 x0 p σ := ⟨hQ.2.1.2.1, h6, hQ.2.2.2⟩
  rw [ckT_ok hQ.2.1.2.1.1, x_next2_ok hA (by omega) (by omega), if_neg (by omega), Option.bind_some]
  have f1 : Fq W σ (gpi σ x0 6 (nI (p + 2))) := Fq.pi (hS.1 _ _ ⟨rfl, by omega⟩)
  refine xC.fr f1 ?_
  have := x_att (C := C) (S := S) (q := q) g hfu hwh hS (U2 P.1 p) fu (p + 2) 0 0 0 a (gpi σ x0 6 (nI (p + 2))) (by omega) (by omega) (by omega) (fun u _ => by rw [Nat.zero_testBit, Nat.zero_testBit]) hQ.at6 (fun b z => by rw [gx_gpi]; exact hNx b z) (hS.2.2.1 _ _ _ hQ hI) gi_gpi_eq hq h1 (by rw [gc_gpi]; omega) (by rw [gs_gpi]; omega)
  rw [Nat.zero_add] at this
  exact this
end XAtt
