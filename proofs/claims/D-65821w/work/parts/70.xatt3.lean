/-! attributes of the class: the component -/
section XAtt3
set_option maxRecDepth 100000
variable {P : PD} {x0 c lo hd fa fu : Nat} {N : Nat → Prop} {σ : GS}
def xBoo (F : Nat → Int32) (c bp : Nat) (σ : GS) : Prop := if bp = 0 then ∃ ba, gr σ c 21 = some ba ∧ gk σ ba = 108 ∧ gn σ ba = 0 else xBo F c bp σ
theorem xBoo.fr {F : Nat → Int32} {bp : Nat} {σ' : GS} {W : Nat → Nat → Prop} (h : xBoo F c bp σ) (f : Fq W σ σ') (hw : WF σ) (hc : gk σ c = 2) (h1 : ¬ W c 21) (h2 : ∀ a j, gk σ a = 100 ∨ gk σ a = 108 → ¬ W a j) : xBoo F c bp σ' := by
  unfold xBoo at h ⊢
  have lc : c < gx σ := hw.lt (by rw [hc]; decide)
  split at h
  · rename_i z
    rw [if_pos z]
    obtain ⟨ba, a1, a2, a3⟩ := h
    have lb : ba < gx σ := hw.lt (by rw [a2]; decide)
    exact ⟨ba, (f.gr lc h1).trans a1, f.gk hw a2 (by decide), (f.gn lb).trans a3⟩
  · rename_i z
    rw [if_neg z]
    obtain ⟨ba, a1, a2, a3, a4⟩ := h
    have lb : ba < gx σ := hw.lt (by rw [a2]; decide)
    exact ⟨ba, (f.gr lc h1).trans a1, f.gk hw a2 (by decide), (f.gn lb).trans a3, fun i hi => (a4 i hi).fr f hw a2 (h2 ba i (Or.inr a2)) (fun a j ha => h2 a j (Or.inl ha))⟩
/-- the class's own, in numbers -/
def xI3 (F : Nat → Int32) (c fl : Nat) (a : Nat → Nat) (σ : GS) : Prop := (gi σ c 0 = nI fl ∧ a 9 ≤ 1 ∧ a 10 ≤ 1) ∧ (gi σ c 20 = nI (a 0) ∧ gi σ c 18 = nI (a 4) ∧ gi σ c 16 = nI (a 5) ∧ gi σ c 17 = nI (a 6) ∧ gi σ c 19 = nI (a 7) - 1 ∧ gi σ c 14 = nI (a 9) ∧ gi σ c 15 = nI (a 10)) ∧ xBoo F c (a 8) σ
def w3C (x0 c a j : Nat) : Prop := wx x0 a j ∨ (a = c ∧ 14 ≤ j ∧ j ≤ 21)
/-- one number of the class is set -/
theorem xI3.put {fl i k : Nat} {v : Int32} {a a' : Nat → Nat} (h : xI3 P.1 c fl a σ) (hQ : xQ P x0 c lo N hd fa σ) (hi : 14 ≤ i ∧ i ≤ 20) (h9 : a' 9 ≤ 1 ∧ a' 10 ≤ 1) (h8 : a' 8 = a 8) (hv : ∀ j k, (j, k) ∈ [(20, 0), (18, 4), (16, 5), (17, 6), (14, 9), (15, 10)] → (if j = i then v = nI (a' k) else a' k = a k)) (h19 : if 19 = i then v = nI (a' 7) - 1 else a' 7 = a 7) : xI3 P.1 c fl a' (gpi σ c i v) := by
  obtain ⟨⟨b0, b1, b2⟩, ⟨c1, c2, c3, c4, c5, c6, c7⟩, h5⟩ := h
  have st : ∀ j k, (j, k) ∈ [(20, 0), (18, 4), (16, 5), (17, 6), (14, 9), (15, 10)] → gi σ c j = nI (a k) → gi (gpi σ c i v) c j = nI (a' k) := by
    intro j k hm hj
    have := hv j k hm
    by_cases z : j = i
    · rw [if_pos z] at this
      rw [z, gi_gpi_eq, this]
    · rw [if_neg z] at this
      rw [gi_gpi_ne (Or.inr z), hj, this]
  refine ⟨⟨(gi_gpi_ne (Or.inr (by omega))).trans b0, h9⟩, ⟨st 20 0 (by decide) c1, st 18 4 (by decide) c2, st 16 5 (by decide) c3, st 17 6 (by decide) c4, ?_, st 14 9 (by decide) c6, st 15 10 (by decide) c7⟩, ?_⟩
  · by_cases z : 19 = i
    · rw [if_pos z] at h19
      rw [← z, gi_gpi_eq, h19]
    · rw [if_neg z] at h19
      rw [gi_gpi_ne (Or.inr z), c5, h19]
  · rw [h8]
    refine h5.fr (W := fun b j => b = c ∧ j = i) (Fq.pi ⟨rfl, rfl⟩) hQ.1 hQ.2.1.1.1.1 (fun z => by have := z.2; omega) (fun b j hb z => ?_)
    rw [z.1, hQ.2.1.1.1.1] at hb
    omega
theorem w3C.k {b j : Nat} (z : w3C x0 c b j) : wk x0 c N b j := by
  rcases z with z | z
  · exact Or.inl z
  · exact Or.inr (Or.inl ⟨z.1, by have := z.2; omega⟩)
theorem xQ.c3 {i : Nat} {v : Int32} (hQ : xQ P x0 c lo N hd fa σ) (hi : 14 ≤ i ∧ i ≤ 21) : Fq (w3C x0 c) σ (gpi σ c i v) ∧ xQ P x0 c lo N hd fa (gpi σ c i v) := by
  have ncx : c ≠ x0 := fun z => by have := hQ.2.1.2.1.1; rw [← z, hQ.2.1.1.1.1] at this; exact absurd this (by decide)
  have f1 : Fq (w3C x0 c) σ (gpi σ c i v) := Fq.pi (Or.inr ⟨rfl, hi⟩)
  exact ⟨f1, hQ.fr f1 (fun b j _ z => z.k) (hQ.2.2.2.pi (fun z => ncx z.symm))⟩
theorem x_a221 {pl p : Nat} (hQ : xQ P x0 c lo N hd fa σ) (g : PG P) (hp : p + 2 + 8 * U2 P.1 p ≤ P.2.1) : ∀ d k f, k + d = U2 P.1 p → d < f → x_attribute_221L fu f σ x0 c (nI pl) (nI p) (nI k) = ci (∀ i, k ≤ i → i < U2 P.1 p → inP P p i) (some (1, σ)) (some (0, xwr σ x0 33 pl)) := by
  have hn := g.1
  have hu := U2_lt P.1 p
  have hF := hQ.2.1.2.1
  have hx := hF.1
  have hc := hQ.2.1.1
  intro d
  induction d with
  | zero =>
    intro k f hk hf
    obtain ⟨f, rfl⟩ : ∃ z9, f = z9 + 1 := ⟨f - 1, by omega⟩
    show x_attribute_221 fu (x_attribute_221L fu f) σ x0 c (nI pl) (nI p) (nI k) = _
    unfold x_attribute_221
    rw [ckT_ok hx, x_u2_ok hF (by omega), Option.bind_some, if_pos (nI_le (by omega) (by omega)), ci_t (fun i i1 i2 => by omega)]
  | succ d ih =>
    intro k f hk hf
    obtain ⟨f, rfl⟩ : ∃ z9, f = z9 + 1 := ⟨f - 1, by omega⟩
    show x_attribute_221 fu (x_attribute_221L fu f) σ x0 c (nI pl) (nI p) (nI k) = _
    have nxt : inP P p k → x_attribute_221L fu f σ x0 c (nI pl) (nI p) (nI (k + 1)) = ci (∀ i, k ≤ i → i < U2 P.1 p → inP P p i) (some (1, σ)) (some (0, xwr σ x0 33 pl)) := by
      intro q
      rw [ih (k + 1) f (by omega) (by omega), show (∀ i, k ≤ i → i < U2 P.1 p → inP P p i) = (∀ i, k + 1 ≤ i → i < U2 P.1 p → inP P p i) from propext ⟨fun w i i1 i2 => w i (by omega) i2, fun w i i1 i2 => by
        rcases Nat.lt_or_ge k i with z | z
        · exact w i z i2
        · rw [show i = k by omega]
          exact q⟩]
    have bad : ¬ inP P p k → some ((0 : Int32), xwr σ x0 33 pl) = ci (∀ i, k ≤ i → i < U2 P.1 p → inP P p i) (some (1, σ)) (some (0, xwr σ x0 33 pl)) := fun q => by rw [ci_f (fun w => q (w k (Nat.le_refl _) (by omega)))]
    have e318 : x_attribute_318 fu (x_attribute_221L fu f) σ x0 c (nI pl) (nI p) (nI k) = some (0, xwr σ x0 33 pl) := by
      unfold x_attribute_318 x_attribute_319
      rw [if_pos rfl, ckT_ok hx, show (33 : Int32) = nI 33 from rfl, x_wrong_ok hx hQ.2.2.2, Option.bind_some, ckN_0]
    have e314 : x_attribute_314 fu (x_attribute_221L fu f) σ x0 c (nI pl) (nI p) (nI k) = x_attribute_221L fu f σ x0 c (nI pl) (nI p) (nI (k + 1)) := by
      unfold x_attribute_314 x_attribute_319
      rw [if_neg i10, nx_eq, nI_1]
    unfold x_attribute_221 x_attribute_287
    rw [ckT_ok hx, x_u2_ok hF (by omega), Option.bind_some, if_neg (nI_ge (by omega) (by omega)), nx_eq, nI_2, show (8 : Int32) * nI k = nI (8 * k) from pk_mul 8 k, nI_add, nI_2, nI_4, e318, e314]
    have u1 := U2_lt P.1 (p + 2 + 8 * k)
    have u2 := U2_lt P.1 (p + 2 + 8 * k + 2)
    have u3 := U2_lt P.1 (p + 2 + 8 * k + 4)
    simp only [x_u2_ok hF (show p + 2 + 8 * k + 2 ≤ P.2.1 by omega), x_u2_ok hF (show p + 2 + 8 * k + 2 + 2 ≤ P.2.1 by omega), x_u2_ok hF (show p + 2 + 8 * k + 4 + 2 ≤ P.2.1 by omega), Option.bind_some, ckT_ok hx]
    rw [show (7 : Int32) = nI 7 from rfl, show (1 : Int32) = nI 1 from rfl, x_isTag_ok hc g u1 (by omega) (by omega), Option.bind_some, x_isTag_ok hc g u2 (by omega) (by omega), Option.bind_some, x_isTag_ok hc g u3 (by omega) (by omega), Option.bind_some]
    by_cases q1 : tgP P (U2 P.1 (p + 2 + 8 * k)) = 7
    case neg =>
      rw [ib_f q1]
      exact bad (fun w => q1 w.1)
    rw [ib_t q1]
    have last : (U2 P.1 (p + 2 + 8 * k + 2) = 0 ∨ tgP P (U2 P.1 (p + 2 + 8 * k + 2)) = 7) → (if nI (U2 P.1 (p + 2 + 8 * k + 4)) = 0 then x_attribute_221L fu f σ x0 c (nI pl) (nI p) (nI (k + 1)) else if bi (tgP P (U2 P.1 (p + 2 + 8 * k + 4)) = 1) = 0 then some (0, xwr σ x0 33 pl) else x_attribute_221L fu f σ x0 c (nI pl) (nI p) (nI (k + 1))) = ci (∀ i, k ≤ i → i < U2 P.1 p → inP P p i) (some (nI 1, σ)) (some (0, xwr σ x0 33 pl)) := by
      intro q2
      by_cases q3 : U2 P.1 (p + 2 + 8 * k + 4) = 0
      · rw [if_pos (show nI (U2 P.1 (p + 2 + 8 * k + 4)) = 0 by rw [q3]; rfl)]
        exact nxt ⟨q1, q2, Or.inl q3⟩
      rw [if_neg (nL (k := 0) (by omega) (by omega) q3)]
      by_cases q4 : tgP P (U2 P.1 (p + 2 + 8 * k + 4)) = 1
      · rw [ib_t q4]
        exact nxt ⟨q1, q2, Or.inr q4⟩
      · rw [ib_f q4]
        exact bad (fun w => w.2.2.elim q3 q4)
    by_cases q2 : U2 P.1 (p + 2 + 8 * k + 2) = 0
    · rw [if_pos (show nI (U2 P.1 (p + 2 + 8 * k + 2)) = 0 by rw [q2]; rfl)]
      exact last (Or.inl q2)
    rw [if_neg (nL (k := 0) (by omega) (by omega) q2)]
    by_cases q2' : tgP P (U2 P.1 (p + 2 + 8 * k + 2)) = 7
    · rw [ib_t q2']
      exact last (Or.inr q2')
    · rw [ib_f q2']
      exact bad (fun w => w.2.1.elim q2 q2')
theorem xStp3 {fl np : Nat} {fin : Prop} {d : List Nat} {f m : Option Nat} (g : PG P) (hfu : 131072 < fu) (hfin : fin ↔ ¬ (nI fl &&& (16 : Int32)) = 0) : xStp P x0 c lo N hd fa fu 3 f m fin fl d np (w3C x0 c) (xI3 P.1 c fl) := by
  have hn := g.1
  refine ⟨fun _ _ z => Or.inl z, fun a j z => z.k, fun a σ v hQ hI => ?_, fun a σ hQ hI => ?_, fun a σ w pl p len C S h1 h10 hwt hQ hNg hI hp1 hp hC hS => ?_⟩
  · have ncx : c ≠ x0 := fun z => by have := hQ.2.1.2.1.1; rw [← z, hQ.2.1.1.1.1] at this; exact absurd this (by decide)
    obtain ⟨⟨b0, b1⟩, ⟨c1, c2, c3, c4, c5, c6, c7⟩, h5⟩ := hI
    have st : ∀ {j : Nat} {w : Int32}, gi σ c j = w → gi (gpi σ x0 6 v) c j = w := fun e => (gi_gpi_ne (Or.inl ncx)).trans e
    refine ⟨⟨st b0, b1⟩, ⟨st c1, st c2, st c3, st c4, st c5, st c6, st c7⟩, h5.fr (W := wx x0) (Fq.pi ⟨rfl, by omega⟩) hQ.1 hQ.2.1.1.1.1 (fun z => ncx z.1) (fun b j hb z => ?_)⟩
    rw [z.1, hQ.2.1.2.1.1] at hb
    omega
  · obtain ⟨f1, Q1⟩ := hQ.c3 (i := 20) (v := gi σ c 20 + 1) (by omega)
    refine ⟨gpi σ c 20 (gi σ c 20 + 1), ⟨f1, Q1.2.2.2, gc_gpi, gs_gpi, gx_gpi⟩, hI.put (k := 0) hQ (by omega) hI.1.2 rfl (fun j k hm => ?_) rfl, fun k12 x5 x6 x7 x8 x10 w w1 w2 => ?_⟩
    · simp only [List.mem_cons, List.not_mem_nil, or_false, Prod.mk.injEq] at hm
      rcases hm with ⟨rfl, rfl⟩ | ⟨rfl, rfl⟩ | ⟨rfl, rfl⟩ | ⟨rfl, rfl⟩ | ⟨rfl, rfl⟩ | ⟨rfl, rfl⟩
      · rw [if_pos rfl, hI.2.1.1, nI_1]
        rfl
      all_goals rfl
    · have hw0 : ¬ nI w ≤ 0 := nI_ge (a := 0) (by omega) (by omega)
      unfold x_attributes_95 x_attributes_123 x_attributes_144
      rw [nx_eq, if_neg hw0, if_neg (show ¬ nI 3 = 0 by decide), if_neg hw0, if_neg (show ¬ nI 3 = (1 : Int32) by decide), if_neg hw0, if_pos (show nI 3 = (3 : Int32) from rfl), ckT_ok hQ.2.1.1.1.1, nx_eq]
  · obtain ⟨t, hwt⟩ := hwt
    have hw1 : 5 ≤ w := by have := (knS_le (mjP P) 3 t).2.2.2.2 rfl; omega
    have hF := hQ.2.1.2.1
    have hx := hF.1
    have h8 := hQ.2.2.2
    have hcc := hQ.2.1.1.1.1
    have hu := U2_lt P.1 p
    have er : ∀ r, xC x0 (w3C x0 c) C S (.error (r, pl) : FE (Nat → Nat)) (fun a' σ' => xI3 P.1 c fl a' σ' ∧ Z8 x0 σ' ∧ C ≤ gc σ' ∧ S ≤ gs σ') σ (some (0, xwr σ x0 r pl)) := fun r => xC.er (fun _ _ z => Or.inl z) (by omega) (by omega)
    have ew : ∀ (r : Nat), ((x_wrong σ x0 (nI r) (nI pl)).bind fun r2 => ckN .boolean r2.1 (some (r2.1, r2.2))) = some (0, xwr σ x0 r pl) := fun r => by rw [x_wrong_ok hx h8, Option.bind_some, ckN_0]
    have ok1 : ∀ (i : Nat) (v : Int32) (a' : Nat → Nat), 14 ≤ i ∧ i ≤ 20 → xI3 P.1 c fl a' (gpi σ c i v) → xC x0 (w3C x0 c) C S (.ok a' : FE (Nat → Nat)) (fun a' σ' => xI3 P.1 c fl a' σ' ∧ Z8 x0 σ' ∧ C ≤ gc σ' ∧ S ≤ gs σ') σ (some (1, gpi σ c i v)) := fun i v a' hi hI' => ⟨_, rfl, ⟨hI', (hQ.c3 (by omega)).2.2.2.2, by rw [gc_gpi]; omega, by rw [gs_gpi]; omega⟩, (hQ.c3 (by omega)).1⟩
    unfold x_attribute x_attribute_0 atS
    rw [if_neg (nL (k := 1) (by omega) (by omega) (by omega)), if_neg (nL (k := 2) (by omega) (by omega) (by omega)), if_neg (nL (k := 3) (by omega) (by omega) (by omega)), if_neg (nL (k := 4) (by omega) (by omega) (by omega)), if_neg (show ¬ w = 1 by omega), if_neg (show ¬ w = 2 by omega), if_neg (show ¬ w = 3 by omega)]
    have e30 : ((x_wrong σ x0 (30 : Int32) (nI pl)).bind fun r2 => ckN .boolean r2.1 (some (r2.1, r2.2))) = some (0, xwr σ x0 30 pl) := ew 30
    by_cases w5 : w = 5
    · rw [if_pos (show nI w = (5 : Int32) by rw [w5]; rfl), if_pos w5, ckT_ok hx, show (8 : Int32) = nI 8 from rfl, x_isTable_ok hF (by omega) hp (by omega), Option.bind_some, e30]
      by_cases hT : tabS P.1 p len 8
      case neg =>
        rw [ib_f hT, if_neg hT]
        exact er 30
      obtain ⟨f1, Q1⟩ := hQ.c3 (i := 18) (v := nI (U2 P.1 p)) (by omega)
      rw [ib_t hT, if_pos hT, x_u2_ok hF (by omega), Option.bind_some, ckT_ok hcc, nx_eq, show x_attribute_221L fu fu (gpi σ c 18 (nI (U2 P.1 p))) x0 c (nI pl) (nI p) (0 : Int32) = _ from x_a221 (fu := fu) (pl := pl) Q1 g (by have := hT.2; omega) (U2 P.1 p) 0 fu (by omega) (by omega)]
      unfold innP
      by_cases q : ∀ k, 0 ≤ k → k < U2 P.1 p → inP P p k
      · rw [ci_t q, ci_t q]
        refine ok1 18 _ _ (by omega) (hI.put (k := 4) hQ (by omega) hI.1.2 rfl (fun j k hm => ?_) rfl)
        simp only [List.mem_cons, List.not_mem_nil, or_false, Prod.mk.injEq] at hm
        rcases hm with ⟨rfl, rfl⟩ | ⟨rfl, rfl⟩ | ⟨rfl, rfl⟩ | ⟨rfl, rfl⟩ | ⟨rfl, rfl⟩ | ⟨rfl, rfl⟩ <;> rfl
      · rw [ci_f q, ci_f q]
        exact (xC.er (fun _ _ z => Or.inl z) (by rw [gc_gpi]; omega) (by rw [gs_gpi]; omega)).fr f1
    rw [if_neg (nL (k := 5) (by omega) (by omega) w5), if_neg w5]
    by_cases w6 : w = 6
    · rw [if_pos (show nI w = (6 : Int32) by rw [w6]; rfl), if_pos w6, ckT_ok hx]
      have hA := x_boots_ok (C := C) (S := S) (pl := pl) hQ g hfu hp hNg (by omega) hS
      revert hA
      cases booS P pl p len with
      | error e =>
        rintro ⟨σ', a1, a2, a3, a4⟩
        refine ⟨σ', ?_, a2, a3.mo (fun b j _ z => ?_), a4⟩
        · rw [a1, Option.bind_some, ckN_0]
        · rcases z with z | z
          · exact Or.inl z
          · exact Or.inr ⟨z.1, by have := z.2; omega⟩
      | ok u =>
        rintro ⟨σ', a1, ⟨a2, a3, a4, a5⟩, a6⟩
        have ncx : c ≠ x0 := fun z => by have := hx; rw [← z, hcc] at this; exact absurd this (by decide)
        have lc : c < gx σ := hQ.1.lt (by rw [hcc]; decide)
        have st : ∀ {j : Nat} {w : Int32}, j ≠ 21 → gi σ c j = w → gi σ' c j = w := fun hj e => (a6.gi lc (fun z => z.elim (fun z => ncx z.1) (fun z => hj z.2))).trans e
        obtain ⟨⟨b0, b1⟩, ⟨c1, c2, c3, c4, c5, c6, c7⟩, h5⟩ := hI
        refine ⟨σ', ?_, ⟨⟨⟨st (by decide) b0, b1⟩, ⟨st (by decide) c1, st (by decide) c2, st (by decide) c3, st (by decide) c4, st (by decide) c5, st (by decide) c6, st (by decide) c7⟩, ?_⟩, a2, a4, a5⟩, a6.mo (fun b j _ z => ?_)⟩
        · rw [a1, Option.bind_some]
          exact ckN_1
        · show xBoo P.1 c p σ'
          unfold xBoo
          rw [if_neg (by omega)]
          exact a3
        · rcases z with z | z
          · exact Or.inl z
          · exact Or.inr ⟨z.1, by have := z.2; omega⟩
    rw [if_neg (nL (k := 6) (by omega) (by omega) w6), if_neg w6]
    by_cases w7 : w = 7
    · rw [if_pos (show nI w = (7 : Int32) by rw [w7]; rfl), if_pos w7, ckT_ok hx, ckT_ok hx, e30]
      unfold x_attribute_389
      rw [ckT_ok hx, show ((x_wrong σ x0 (34 : Int32) (nI pl)).bind fun r2 => ckN .boolean r2.1 (some (r2.1, r2.2))) = some (0, xwr σ x0 34 pl) from ew 34]
      by_cases hl : len = 2
      case neg =>
        rw [if_neg (nL (k := 2) (by omega) (by omega) hl), if_neg hl]
        exact er 30
      rw [if_pos (show nI len = (2 : Int32) by rw [hl]; rfl), if_pos hl, x_u2_ok hF (by omega), Option.bind_some, show (7 : Int32) = nI 7 from rfl, x_isTag_ok hQ.2.1.1 g hu (by omega) (by omega), Option.bind_some, ckT_ok hcc, hI.2.1.2.2.2.2.2.2]
      by_cases q1 : tgP P (U2 P.1 p) = 7
      case neg =>
        rw [ib_f q1, if_neg (fun w => q1 w.1)]
        exact er 34
      rw [ib_t q1]
      by_cases q2 : a 10 = 0
      · rw [if_pos (show nI (a 10) = 0 by rw [q2]; rfl), if_pos ⟨q1, q2⟩, nx_eq]
        refine ok1 14 _ _ (by omega) (hI.put (k := 9) hQ (by omega) ⟨Nat.le_refl _, hI.1.2.2⟩ rfl (fun j k hm => ?_) rfl)
        simp only [List.mem_cons, List.not_mem_nil, or_false, Prod.mk.injEq] at hm
        rcases hm with ⟨rfl, rfl⟩ | ⟨rfl, rfl⟩ | ⟨rfl, rfl⟩ | ⟨rfl, rfl⟩ | ⟨rfl, rfl⟩ | ⟨rfl, rfl⟩ <;> rfl
      · rw [if_neg (nL (k := 0) (by have := hI.1.2.2; omega) (by omega) q2), if_neg (fun w => q2 w.2)]
        exact er 34
    rw [if_neg (nL (k := 7) (by omega) (by omega) w7), if_neg w7]
    by_cases w8 : w = 8
    · rw [if_pos (show nI w = (8 : Int32) by rw [w8]; rfl), if_pos w8, ckT_ok hx, show (2 : Int32) = nI 2 from rfl, x_isTable_ok hF (by omega) hp (by omega), Option.bind_some, e30]
      unfold x_attribute_441
      rw [ckT_ok hx, show ((x_wrong σ x0 (35 : Int32) (nI pl)).bind fun r2 => ckN .boolean r2.1 (some (r2.1, r2.2))) = some (0, xwr σ x0 35 pl) from ew 35]
      by_cases hT : tabS P.1 p len 2
      case neg =>
        rw [ib_f hT, if_neg hT]
        exact er 30
      rw [ib_t hT, if_pos hT, x_areClasses_ok hF hQ.2.1.1 g (by omega) (by have := hT.2; omega), Option.bind_some, ckT_ok hcc, hI.2.1.2.2.2.2.2.1]
      by_cases q1 : clsP P p
      case neg =>
        rw [ib_f q1, ci_f (fun w => q1 w.1)]
        exact er 35
      rw [ib_t q1]
      by_cases q2 : a 9 = 0
      · obtain ⟨f1, Q1⟩ := hQ.c3 (i := 15) (v := (1 : Int32)) (by omega)
        rw [if_pos (show nI (a 9) = 0 by rw [q2]; rfl), ci_t ⟨q1, q2⟩, nx_eq, x_u2_ok Q1.2.1.2.1 (by omega), Option.bind_some, nx_eq]
        have hI1 : xI3 P.1 c fl (uA a 10 1) (gpi σ c 15 1) := by
          refine hI.put (k := 10) hQ (by omega) ⟨hI.1.2.1, Nat.le_refl _⟩ rfl (fun j k hm => ?_) rfl
          simp only [List.mem_cons, List.not_mem_nil, or_false, Prod.mk.injEq] at hm
          rcases hm with ⟨rfl, rfl⟩ | ⟨rfl, rfl⟩ | ⟨rfl, rfl⟩ | ⟨rfl, rfl⟩ | ⟨rfl, rfl⟩ | ⟨rfl, rfl⟩ <;> rfl
        have hI2 : xI3 P.1 c fl (uA (uA a 10 1) 5 (U2 P.1 p)) (gpi (gpi σ c 15 1) c 16 (nI (U2 P.1 p))) := by
          refine hI1.put (k := 5) Q1 (by omega) ⟨hI.1.2.1, Nat.le_refl _⟩ rfl (fun j k hm => ?_) rfl
          simp only [List.mem_cons, List.not_mem_nil, or_false, Prod.mk.injEq] at hm
          rcases hm with ⟨rfl, rfl⟩ | ⟨rfl, rfl⟩ | ⟨rfl, rfl⟩ | ⟨rfl, rfl⟩ | ⟨rfl, rfl⟩ | ⟨rfl, rfl⟩ <;> rfl
        exact ⟨_, rfl, ⟨hI2, (Q1.c3 (by omega)).2.2.2.2, by rw [gc_gpi, gc_gpi]; omega, by rw [gs_gpi, gs_gpi]; omega⟩, f1.tr (Q1.c3 (by omega)).1⟩
      · rw [if_neg (nL (k := 0) (by have := hI.1.2.1; omega) (by omega) q2), ci_f (fun w => q2 w.2)]
        exact er 35
    rw [if_neg (nL (k := 8) (by omega) (by omega) w8), if_neg w8]
    by_cases w9 : w = 9
    · rw [if_pos (show nI w = (9 : Int32) by rw [w9]; rfl), if_pos w9, ckT_ok hx]
      have hA := x_record_ok (C := C) (S := S) (pl := pl) hQ g hfu hp (by omega) (by omega)
      revert hA
      cases recS P pl p len with
      | error e =>
        rintro ⟨σ', a1, a2, a3, a4⟩
        refine ⟨σ', ?_, a2, a3.mo (fun b j _ z => ?_), a4⟩
        · rw [a1, Option.bind_some, ckN_0]
        · rcases z with z | z
          · exact Or.inl z
          · exact Or.inr ⟨z.1, by have := z.2; omega⟩
      | ok u =>
        rintro ⟨σ', a1, rfl, a6⟩
        rw [a1, Option.bind_some, eb_ok]
        show xC _ _ _ _ _ _ _ (ckN .boolean (1 : Int32) _)
        rw [ckN_1]
        refine ok1 19 _ _ (by omega) (hI.put (k := 7) hQ (by omega) hI.1.2 rfl (fun j k hm => ?_) ?_)
        · simp only [List.mem_cons, List.not_mem_nil, or_false, Prod.mk.injEq] at hm
          rcases hm with ⟨rfl, rfl⟩ | ⟨rfl, rfl⟩ | ⟨rfl, rfl⟩ | ⟨rfl, rfl⟩ | ⟨rfl, rfl⟩ | ⟨rfl, rfl⟩ <;> rfl
        · rw [if_pos rfl]
          show nI (U2 P.1 p) = nI (U2 P.1 p + 1) - 1
          exact (nI_pred _).symm
    rw [if_neg (nL (k := 9) (by omega) (by omega) w9), if_neg w9, ckT_ok hx, show (2 : Int32) = nI 2 from rfl, x_isTable_ok hF (by omega) hp (by omega), Option.bind_some, e30]
    unfold x_attribute_514 x_X3_isFinal x_X3_isFinal_0
    rw [ckT_ok hx, show ((x_wrong σ x0 (36 : Int32) (nI pl)).bind fun r2 => ckN .boolean r2.1 (some (r2.1, r2.2))) = some (0, xwr σ x0 36 pl) from ew 36]
    by_cases hT : tabS P.1 p len 2
    case neg =>
      rw [ib_f hT, if_neg hT]
      exact er 30
    rw [ib_t hT, if_pos hT, x_areClasses_ok hF hQ.2.1.1 g (by omega) (by have := hT.2; omega), Option.bind_some, ckT_ok hcc, ckT_ok hcc, hI.1.1]
    by_cases q1 : clsP P p
    case neg =>
      rw [ib_f q1, ci_f (fun w => q1 w.1)]
      exact er 36
    rw [ib_t q1]
    by_cases q2 : (nI fl &&& (16 : Int32)) = 0
    · rw [if_pos q2, Option.bind_some, if_pos rfl, x_u2_ok hF (by omega), Option.bind_some, nx_eq, ci_t ⟨q1, fun w => hfin.mp w q2⟩]
      refine ok1 17 _ _ (by omega) (hI.put (k := 6) hQ (by omega) hI.1.2 rfl (fun j k hm => ?_) rfl)
      simp only [List.mem_cons, List.not_mem_nil, or_false, Prod.mk.injEq] at hm
      rcases hm with ⟨rfl, rfl⟩ | ⟨rfl, rfl⟩ | ⟨rfl, rfl⟩ | ⟨rfl, rfl⟩ | ⟨rfl, rfl⟩ | ⟨rfl, rfl⟩ <;> rfl
    · rw [if_neg q2, Option.bind_some, if_neg i10, ci_f (fun w => w.2 (hfin.mpr q2))]
      exact er 36
end XAtt3
