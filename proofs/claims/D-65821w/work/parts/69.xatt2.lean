/-! attributes of fields and methods: the component -/
section XAtt2
set_option maxRecDepth 100000
variable {P : PD} {x0 c lo hd fa fu : Nat} {N : Nat → Prop} {σ : GS}
/-- a text that stays -/
def pS (N : Nat → Prop) (d : List Nat) (s : Nat) (σ : GS) : Prop := sS d s σ ∧ N s ∧ ∀ w, gr σ s 0 = some w → N w
theorem pS.fr {d : List Nat} {s : Nat} {σ' : GS} {W : Nat → Nat → Prop} (h : pS N d s σ) (f : Fq W σ σ') (hw : WF σ) (hN : ∀ a j, N a → gk σ a = 6 ∨ gk σ a = 101 → ¬ W a j) : pS N d s σ' := by
  obtain ⟨h1, h2, h3⟩ := h
  have ls : s < gx σ := hw.lt (by rw [h1.1]; decide)
  refine ⟨f.str hw h1 (fun j => hN s j h2 (Or.inl h1.1)) (fun v hv j => ?_), h2, fun w hv => h3 w ?_⟩
  · obtain ⟨w, g4, g5, -⟩ := h1.2.2.2
    have e : v = w := by
      rw [g4] at hv
      exact (Option.some.inj hv).symm
    rw [e] at hv ⊢
    exact hN w j (h3 w hv) (Or.inr g5)
  · rw [f.gr ls (hN s 0 h2 (Or.inl h1.1))] at hv
    exact hv
def xI0 (N : Nat → Prop) (f fl : Nat) (d : List Nat) (a : Nat → Nat) (σ : GS) : Prop := (gk σ f = 3 ∧ gi σ f 4 = nI fl ∧ gi σ f 6 = nI (kindS (ch d 0)) ∧ ∃ s, gr σ f 1 = some s ∧ pS N d s σ) ∧ gi σ f 7 = nI (a 0) ∧ gi σ f 5 = nI (a 1)
def w0F (x0 f a j : Nat) : Prop := wx x0 a j ∨ (a = f ∧ (j = 5 ∨ j = 7))
theorem xI0.pr {f fl : Nat} {d : List Nat} {a : Nat → Nat} {σ' : GS} {W : Nat → Nat → Prop} (h : xI0 N f fl d a σ) (q : Fq W σ σ') (hw : WF σ) (hW : ∀ a j, W a j → w0F x0 f a j) (hN : ¬ N f) (hNx : ¬ N x0) (hfx : f ≠ x0) : gk σ' f = 3 ∧ gi σ' f 4 = nI fl ∧ gi σ' f 6 = nI (kindS (ch d 0)) ∧ ∃ s, gr σ' f 1 = some s ∧ pS N d s σ' := by
  obtain ⟨⟨h1, h2, h3, s, h4, h5⟩, -⟩ := h
  have lf : f < gx σ := hw.lt (by rw [h1]; decide)
  have nf : ∀ j, ¬ (j = 5 ∨ j = 7) → ¬ W f j := fun j hj z => by
    rcases hW f j z with z | z
    · exact hfx z.1
    · exact hj z.2
  refine ⟨q.gk hw h1 (by decide), (q.gi lf (nf 4 (by omega))).trans h2, (q.gi lf (nf 6 (by omega))).trans h3, s, (q.gr lf (nf 1 (by omega))).trans h4, h5.fr q hw (fun a j m _ z => ?_)⟩
  rcases hW a j z with z | z
  · exact hNx (z.1 ▸ m)
  · exact hN (z.1 ▸ m)
theorem xStp0 {f fl np : Nat} {fin : Prop} {d : List Nat} {m : Option Nat} (g : PG P) (hfu : 131072 < fu) (hN : ¬ N f) (hNx : ¬ N x0) (hfx : f ≠ x0) (hd2 : FieldS d) : xStp P x0 c lo N hd fa fu 0 (some f) m fin fl d np (w0F x0 f) (xI0 N f fl d) := by
  have hn := g.1
  refine ⟨fun _ _ z => Or.inl z, fun a j z => ?_, fun a σ v hQ hI => ?_, fun a σ hQ hI => ?_, fun a σ w pl p len C S h1 h10 hwt hQ hNg hI hp1 hp hC hS => ?_⟩
  · rcases z with z | z
    · exact Or.inl z
    · rw [z.1]
      exact Or.inr (Or.inr ⟨hN, hfx⟩)
  · exact ⟨hI.pr (x0 := x0) (W := wx x0) (Fq.pi ⟨rfl, by omega⟩) hQ.1 (fun _ _ z => Or.inl z) hN hNx hfx, (gi_gpi_ne (Or.inl hfx)).trans hI.2.1, (gi_gpi_ne (Or.inl hfx)).trans hI.2.2⟩
  · have f1 : Fq (w0F x0 f) σ (gpi σ f 7 (gi σ f 7 + 1)) := Fq.pi (Or.inr ⟨rfl, by omega⟩)
    refine ⟨gpi σ f 7 (gi σ f 7 + 1), ⟨f1, hQ.2.2.2.pi (fun z => hfx z.symm), gc_gpi, gs_gpi, gx_gpi⟩, ⟨hI.pr f1 hQ.1 (fun _ _ z => z) hN hNx hfx, ?_, ?_⟩, fun k12 x5 x6 x7 x8 x10 w w1 w2 => ?_⟩
    · rw [gi_gpi_eq, hI.2.1, nI_1]
      rfl
    · rw [gi_gpi_ne (Or.inr (by decide)), hI.2.2]
      rfl
    · have hw0 : ¬ nI w ≤ 0 := nI_ge (a := 0) (by omega) (by omega)
      unfold x_attributes_95 x_attributes_123 x_attributes_144
      rw [nx_eq, if_neg hw0, if_pos (show nI 0 = 0 from rfl), ckK_ok hI.1.1, nx_eq, if_neg hw0, if_neg (show ¬ nI 0 = (1 : Int32) by decide), if_neg hw0, if_neg (show ¬ nI 0 = (3 : Int32) by decide)]
  · obtain ⟨t, hwt⟩ := hwt
    have hw1 : w = 1 := by have := (knS_le (mjP P) 0 t).2.1 rfl; omega
    subst hw1
    have hF := hQ.2.1.2.1
    have hx := hF.1
    have h8 := hQ.2.2.2
    have hu := U2_lt P.1 p
    unfold x_attribute x_attribute_0 atS
    rw [if_pos (show nI 1 = (1 : Int32) from rfl), if_pos (show (1 : Nat) = 1 from rfl)]
    by_cases hl : len = 2
    case neg =>
      rw [if_neg (nL (k := 2) (by omega) (by omega) hl), if_neg hl, ckT_ok hx, show (30 : Int32) = nI 30 from rfl, x_wrong_ok hx h8, Option.bind_some, ckN_0]
      exact xC.er (fun _ _ z => Or.inl z) (by omega) (by omega)
    rw [if_pos (show nI len = (2 : Int32) by rw [hl]; rfl), if_pos hl, ckK_ok hI.1.1, hI.1.2.1]
    by_cases h0 : (nI fl &&& (8 : Int32)) = 0
    · rw [if_pos h0, if_pos h0]
      exact xC.ok ⟨hI, h8, by omega, by omega⟩
    rw [if_neg h0, if_neg h0, ckT_ok hx, x_u2_ok hF (by omega), Option.bind_some, nx_eq]
    have f1 : Fq (w0F x0 f) σ (gpi σ f 5 (nI (U2 P.1 p))) := Fq.pi (Or.inr ⟨rfl, by omega⟩)
    have h81 : Z8 x0 (gpi σ f 5 (nI (U2 P.1 p))) := Z8.pi (fun z => hfx z.symm) h8
    have Q1 := hQ.fr f1 (fun a j _ z => by
      rcases z with z | z
      · exact Or.inl z
      · rw [z.1]
        exact Or.inr (Or.inr ⟨hN, hfx⟩)) h81
    obtain ⟨i1, i2, i3, s, i4, i5⟩ := hI.pr f1 hQ.1 (fun _ _ z => z) hN hNx hfx
    have e5 : gi (gpi σ f 5 (nI (U2 P.1 p))) f 5 = nI (U2 P.1 p) := gi_gpi_eq
    have e7 : gi (gpi σ f 5 (nI (U2 P.1 p))) f 7 = nI (a 0) := (gi_gpi_ne (Or.inr (by decide))).trans hI.2.1
    have c1 : gc (gpi σ f 5 (nI (U2 P.1 p))) = gc σ := gc_gpi
    have s1 : gs (gpi σ f 5 (nI (U2 P.1 p))) = gs σ := gs_gpi
    refine xC.fr f1 ?_
    generalize gpi σ f 5 (nI (U2 P.1 p)) = σ1 at *
    rw [x_isConstant_ok Q1.2.1.1 Q1.2.2.1 g hfu i1 e5 hu i3 i4 i5.1 hd2, Option.bind_some, show (31 : Int32) = nI 31 from rfl, x_wrong_ok Q1.2.1.2.1.1 h81, Option.bind_some, if_pos rfl]
    unfold x_attribute_109
    by_cases q : cokP P d (U2 P.1 p)
    · rw [ib_t q, ci_t q]
      exact xC.ok ⟨⟨⟨i1, i2, i3, s, i4, i5⟩, e7, e5⟩, h81, by omega, by omega⟩
    · rw [ib_f q, ci_f q]
      exact xC.er (fun _ _ z => Or.inl z) (by omega) (by omega)
/-- the code of a method, if it has one -/
def xCo (F : Nat → Int32) (m cp : Nat) (σ : GS) : Prop := if cp = 0 then gi σ m 10 = 0 ∧ gi σ m 8 = 0 ∧ gi σ m 9 = 0 ∧ ∃ ra, gr σ m 12 = some ra ∧ gk σ ra = 100 ∧ gn σ ra = 0 else xCd F m cp σ
theorem xCo.fr {F : Nat → Int32} {m cp : Nat} {σ' : GS} {W : Nat → Nat → Prop} (h : xCo F m cp σ) (f : Fq W σ σ') (hw : WF σ) (hm : gk σ m = 4) (h1 : ∀ j, 8 ≤ j → j ≤ 12 → ¬ W m j) (h2 : ∀ a j, gk σ a = 100 ∨ (gk σ a = 101 ∧ m < a) → ¬ W a j) : xCo F m cp σ' := by
  unfold xCo at h ⊢
  have lm : m < gx σ := hw.lt (by rw [hm]; decide)
  split at h
  · rename_i z
    rw [if_pos z]
    obtain ⟨a1, a2, a3, ra, a4, a5, a6⟩ := h
    have lr : ra < gx σ := hw.lt (by rw [a5]; decide)
    exact ⟨(f.gi lm (h1 10 (by omega) (by omega))).trans a1, (f.gi lm (h1 8 (by omega) (by omega))).trans a2, (f.gi lm (h1 9 (by omega) (by omega))).trans a3, ra, (f.gr lm (h1 12 (by omega) (by omega))).trans a4, f.gk hw a5 (by decide), (f.gn lr).trans a6⟩
  · rename_i z
    rw [if_neg z]
    exact h.fr f hw hm h1 h2
def xI1 (F : Nat → Int32) (m np : Nat) (a : Nat → Nat) (σ : GS) : Prop := (gk σ m = 4 ∧ gi σ m 13 = nI np) ∧ gi σ m 6 = nI (a 0) ∧ gi σ m 7 = nI (a 2) ∧ xCo F m (a 3) σ
def w1M (x0 m a j : Nat) : Prop := wx x0 a j ∨ (a = m ∧ 6 ≤ j ∧ j ≤ 12)
theorem xStp1 {m fl np : Nat} {fin : Prop} {d : List Nat} {f : Option Nat} (g : PG P) (hfu : 131072 < fu) (hnp : np < 70000) (hN : ¬ N m) (hNx : ¬ N x0) (hmx : m ≠ x0) (hmc : m ≠ c) : xStp P x0 c lo N hd fa fu 1 f (some m) fin fl d np (w1M x0 m) (xI1 P.1 m np) := by
  have hn := g.1
  have wk1 : ∀ a j, w1M x0 m a j → wk x0 c N a j := fun a j z => by
    rcases z with z | z
    · exact Or.inl z
    · rw [z.1]
      exact Or.inr (Or.inr ⟨hN, hmx⟩)
  refine ⟨fun _ _ z => Or.inl z, wk1, fun a σ v hQ hI => ?_, fun a σ hQ hI => ?_, fun a σ w pl p len C S h1 h10 hwt hQ hNg hI hp1 hp hC hS => ?_⟩
  · refine ⟨⟨gk_gpi.trans hI.1.1, (gi_gpi_ne (Or.inl hmx)).trans hI.1.2⟩, (gi_gpi_ne (Or.inl hmx)).trans hI.2.1, (gi_gpi_ne (Or.inl hmx)).trans hI.2.2.1, hI.2.2.2.fr (W := wx x0) (Fq.pi ⟨rfl, by omega⟩) hQ.1 hI.1.1 (fun j _ _ z => hmx z.1) (fun b j hb z => ?_)⟩
    rw [z.1, hQ.2.1.2.1.1] at hb
    omega
  · have f1 : Fq (fun b j => b = m ∧ j = 6) σ (gpi σ m 6 (gi σ m 6 + 1)) := Fq.pi ⟨rfl, rfl⟩
    refine ⟨gpi σ m 6 (gi σ m 6 + 1), ⟨f1.mo (fun b j _ z => Or.inr ⟨z.1, by have := z.2; omega⟩), hQ.2.2.2.pi (fun z => hmx z.symm), gc_gpi, gs_gpi, gx_gpi⟩, ⟨⟨gk_gpi.trans hI.1.1, (gi_gpi_ne (Or.inr (by decide))).trans hI.1.2⟩, ?_, ?_, ?_⟩, fun k12 x5 x6 x7 x8 x10 w w1 w2 => ?_⟩
    · rw [gi_gpi_eq, hI.2.1, nI_1]
      rfl
    · rw [gi_gpi_ne (Or.inr (by decide)), hI.2.2.1]
      rfl
    · show xCo P.1 m (a 3) (gpi σ m 6 (gi σ m 6 + 1))
      refine hI.2.2.2.fr f1 hQ.1 hI.1.1 (fun j j1 j2 z => by have := z.2; omega) (fun b j hb z => ?_)
      rw [z.1, hI.1.1] at hb
      omega
    · have hw0 : ¬ nI w ≤ 0 := nI_ge (a := 0) (by omega) (by omega)
      unfold x_attributes_95 x_attributes_123 x_attributes_144
      rw [nx_eq, if_neg hw0, if_neg (show ¬ nI 1 = 0 by decide), if_neg hw0, if_pos (show nI 1 = (1 : Int32) from rfl), ckK_ok hI.1.1, nx_eq, if_neg hw0, if_neg (show ¬ nI 1 = (3 : Int32) by decide)]
  · obtain ⟨t, hwt⟩ := hwt
    have hw1 : w = 2 ∨ w = 3 := by have := (knS_le (mjP P) 1 t).2.2.1 rfl; omega
    have hF := hQ.2.1.2.1
    have hx := hF.1
    have h8 := hQ.2.2.2
    have hu := U2_lt P.1 p
    have lm : m < gx σ := hQ.1.lt (by rw [hI.1.1]; decide)
    unfold x_attribute x_attribute_0 atS
    rcases hw1 with hw | hw
    · subst hw
      rw [if_neg (show ¬ nI 2 = (1 : Int32) by decide), if_pos (show nI 2 = (2 : Int32) from rfl), if_neg (show ¬ (2 : Nat) = 1 by decide), if_pos (show (2 : Nat) = 2 from rfl), ckT_ok hx, ckR_ok]
      have hA := x_code_ok (C := C) (S := S) (pl := pl) (p := p) (len := len) g hfu hp hnp hN hmx hmc hQ hNg hI.1.1 hI.1.2 (by omega) hS
      revert hA
      cases codS P np pl p len with
      | error e =>
        rintro ⟨σ', a1, a2, a3, a4⟩
        refine ⟨σ', ?_, a2, a3.mo (fun b j _ z => ?_), a4⟩
        · rw [a1, Option.bind_some, ckN_0]
        · rcases z with z | z
          · exact Or.inl z
          · exact Or.inr ⟨z.1, by have := z.2; omega⟩
      | ok u =>
        rintro ⟨σ', a1, ⟨a2, a3, a4, a5⟩, a6⟩
        have nm : ∀ j, j < 8 ∨ 12 < j → ¬ wm x0 m m j := fun j hj z => by
          rcases z with z | z
          · exact hmx z.1
          · have := z.2
            omega
        refine ⟨σ', ?_, ⟨⟨⟨a6.gk hQ.1 hI.1.1 (by decide), (a6.gi lm (nm 13 (by omega))).trans hI.1.2⟩, (a6.gi lm (nm 6 (by omega))).trans hI.2.1, (a6.gi lm (nm 7 (by omega))).trans hI.2.2.1, ?_⟩, a2, a4, a5⟩, a6.mo (fun b j _ z => ?_)⟩
        · rw [a1, Option.bind_some]
          exact ckN_1
        · show xCo P.1 m p σ'
          unfold xCo
          rw [if_neg (by omega)]
          exact a3
        · rcases z with z | z
          · exact Or.inl z
          · exact Or.inr ⟨z.1, by have := z.2; omega⟩
    · subst hw
      rw [if_neg (show ¬ nI 3 = (1 : Int32) by decide), if_neg (show ¬ nI 3 = (2 : Int32) by decide), if_pos (show nI 3 = (3 : Int32) from rfl), if_neg (show ¬ (3 : Nat) = 1 by decide), if_neg (show ¬ (3 : Nat) = 2 by decide), if_pos (show (3 : Nat) = 3 from rfl), ckT_ok hx, show (2 : Int32) = nI 2 from rfl, x_isTable_ok hF (by omega) hp (by omega), Option.bind_some]
      by_cases hT : tabS P.1 p len 2
      case neg =>
        rw [ib_f hT, if_neg hT, show (30 : Int32) = nI 30 from rfl, x_wrong_ok hx h8, Option.bind_some, ckN_0]
        exact xC.er (fun _ _ z => Or.inl z) (by omega) (by omega)
      rw [ib_t hT, if_pos hT, x_u2_ok hF (by omega), Option.bind_some, ckK_ok hI.1.1, nx_eq]
      have f1 : Fq (fun b j => b = m ∧ j = 7) σ (gpi σ m 7 (nI (U2 P.1 p))) := Fq.pi ⟨rfl, rfl⟩
      have F1 : Fq (w1M x0 m) σ (gpi σ m 7 (nI (U2 P.1 p))) := f1.mo (fun b j _ z => Or.inr ⟨z.1, by have := z.2; omega⟩)
      have h81 : Z8 x0 (gpi σ m 7 (nI (U2 P.1 p))) := Z8.pi (fun z => hmx z.symm) h8
      have Q1 := hQ.fr F1 (fun b j _ z => wk1 b j z) h81
      have hI1 : xI1 P.1 m np (uA a 2 (U2 P.1 p)) (gpi σ m 7 (nI (U2 P.1 p))) := by
        refine ⟨⟨gk_gpi.trans hI.1.1, (gi_gpi_ne (Or.inr (by decide))).trans hI.1.2⟩, ?_, ?_, ?_⟩
        · rw [gi_gpi_ne (Or.inr (by decide)), hI.2.1]
          rfl
        · rw [gi_gpi_eq]
          rfl
        · show xCo P.1 m (a 3) (gpi σ m 7 (nI (U2 P.1 p)))
          refine hI.2.2.2.fr f1 hQ.1 hI.1.1 (fun j j1 j2 z => by have := z.2; omega) (fun b j hb z => ?_)
          rw [z.1, hI.1.1] at hb
          omega
      have c1 : gc (gpi σ m 7 (nI (U2 P.1 p))) = gc σ := gc_gpi
      have s1 : gs (gpi σ m 7 (nI (U2 P.1 p))) = gs σ := gs_gpi
      refine xC.fr F1 ?_
      generalize gpi σ m 7 (nI (U2 P.1 p)) = σ1 at *
      rw [x_areClasses_ok Q1.2.1.2.1 Q1.2.1.1 g (by omega) (by have := hT.2; omega), Option.bind_some, show (32 : Int32) = nI 32 from rfl, x_wrong_ok Q1.2.1.2.1.1 h81, Option.bind_some, if_pos rfl]
      unfold x_attribute_179
      by_cases q : clsP P p
      · rw [ib_t q, ci_t q]
        exact xC.ok ⟨hI1, h81, by omega, by omega⟩
      · rw [ib_f q, ci_f q]
        exact xC.er (fun _ _ z => Or.inl z) (by omega) (by omega)
end XAtt2
