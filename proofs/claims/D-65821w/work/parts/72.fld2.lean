/-! fields: the component -/
section Fld2
set_option maxRecDepth 100000
variable {P : PD} {x0 c lo hd fa fu : Nat} {N : Nat → Prop} {σ : GS}
theorem x_X3_isFace_ok {fl : Nat} (hc : gk σ c = 2) (h0 : gi σ c 0 = nI fl) : x_X3_isFace σ c = some (bi (¬ (nI fl &&& (512 : Int32)) = 0)) := by
  unfold x_X3_isFace x_X3_isFace_0
  rw [ckT_ok hc, h0]
  by_cases q : (nI fl &&& (512 : Int32)) = 0
  · rw [if_pos q, bi_f (fun w => w q)]
  · rw [if_neg q, bi_t q]
/-- what holds of a field while it is read; A its object -/
theorem x_fd_tail {k23 : GS → Nat → Nat → Int32 → Int32 → Option (Int32 × GS)} {fin : Prop} {ff nn k p q A C S : Nat} {M : Nat → MR} {D : (Nat → Nat) → FE (Nat → MR)} {Q : (Nat → MR) → GS → Prop} (g : PG P) (hfu : 131072 < fu) (hAx : A ≠ x0) (hA : ¬ N A) (hQ : xQ P x0 c lo N hd fa σ) (hNx : ∀ a, N a → a < gx σ) (h12 : gr σ c 12 = some ff) (kf : gk σ ff = 106) (nf : gn σ ff = nn) (hnn : nn < 65536) (hk : k < nn) (hp : p + 8 ≤ P.2.1) (hq : attrS P.1 P.2.1 (p + 6) = .ok q)
    (ka : gk σ A = 3) (i4 : gi σ A 4 = nI (U2 P.1 p)) (i2 : gi σ A 2 = nI (U2 P.1 (p + 2))) (i3 : gi σ A 3 = nI (U2 P.1 (p + 4))) (i7 : gi σ A 7 = 0) (i5 : gi σ A 5 = 0) {s t : Nat} (r0 : gr σ A 0 = some s) (hs : pS N (n2 P p) s σ) (r1 : gr σ A 1 = some t) (ht : pS N (n4 P p) t σ) (hfs : FieldS (n4 P p)) (hv : ∀ j, j < k → ∃ f, gr σ ff j = some f ∧ xFd P N f (M j) σ) (hC : C + (P.2.1 - (p + 6)) ≤ gc σ) (hS : S + 2 * (P.2.1 - (p + 6)) ≤ gs σ)
    (cont : ∀ a σ', Fq (fun b j => wx x0 b j ∨ b = A) σ σ' → Z8 x0 σ' → gi σ' x0 6 = nI q → xFd P N A (p, a) σ' → C + (P.2.1 - q) ≤ gc σ' → S + 2 * (P.2.1 - q) ≤ gs σ' → xC x0 (fun b j => wx x0 b j ∨ b = ff) C S (D a) Q σ' (k23 σ' x0 c (nI nn) (nI (k + 1)))) (W : Nat → Nat → Prop) (hWx : ∀ b j, wx x0 b j → W b j) (hWA : ∀ j, W A j) (hWf : ∀ j, W ff j) :
    xC x0 W C S (ci (∀ j, 0 ≤ j → j < k → ¬ (n2 P (M j).1 = n2 P p ∧ n4 P (M j).1 = n4 P p)) (eb (attsS P 0 fin (U2 P.1 p) (n4 P p) 0 (U2 P.1 (p + 6)) (p + 8) 0 (fun _ => 0)) D) (.error (22, p))) Q σ (x_checkFields_261L fu k23 fu σ x0 c (nI nn) (nI k) A (nI p) (0 : Int32)) := by
  have hn := g.1
  have hx := hQ.2.1.2.1.1
  have lA : A < gx σ := hQ.1.lt (by rw [ka]; decide)
  obtain ⟨hl, -⟩ := FieldS_0 hfs
  have hK := hQ.2.2.1.k (fu := fu) (by omega)
  have hR : ∀ fz, x_checkFields_261L fu k23 (fz + 1) σ x0 c (nI nn) (nI k) A (nI p) (nI k) = (x_attributes fu (gpi (gpi σ A 6 (nI (kindS (ch (n4 P p) 0)))) x0 6 (nI (p + 6))) x0 c (0 : Int32) (some A) none).bind fun r11 => if r11.1 = 0 then some ((0 : Int32), r11.2) else nx (nI k + (1 : Int32)) fun y14 => k23 r11.2 x0 c (nI nn) y14 := by
    intro fz
    show x_checkFields_261 fu k23 (x_checkFields_261L fu k23 fz) σ x0 c (nI nn) (nI k) A (nI p) (nI k) = _
    unfold x_checkFields_261
    rw [if_pos (nI_le (by omega) (by omega)), ckT_ok ka, r1, ckR_ok, show (0 : Int32) = nI 0 from rfl, x_kindAt_ok ht.1.toxT hK hl, Option.bind_some, nx_eq, ckT_ok (gk_gpi.trans hx), nx_eq, nI_6]
  have hmain := x_f261 (fu := fu) (k23 := k23) (x2 := nI nn) (p := p) hQ hfu h12 kf (by omega) (by omega) ka r0 hs.1 r1 ht.1 hv hR k 0 fu (by omega) (by omega)
  rw [show x_checkFields_261L fu k23 fu σ x0 c (nI nn) (nI k) A (nI p) (0 : Int32) = _ from hmain]
  by_cases qd : ∀ j, 0 ≤ j → j < k → ¬ (n2 P (M j).1 = n2 P p ∧ n4 P (M j).1 = n4 P p)
  case neg =>
    rw [ci_f qd, ci_f qd]
    exact xC.er hWx (by omega) (by omega)
  rw [ci_t qd, ci_t qd]
  have G : Fq (fun b j => wx x0 b j ∨ b = A) σ (gpi (gpi σ A 6 (nI (kindS (ch (n4 P p) 0)))) x0 6 (nI (p + 6))) := (Fq.pi (Or.inr rfl)).tr (Fq.pi (Or.inl ⟨rfl, by omega⟩))
  have h81 : Z8 x0 (gpi (gpi σ A 6 (nI (kindS (ch (n4 P p) 0)))) x0 6 (nI (p + 6))) := Z8.pk (by decide) (Z8.pi (fun z => hAx z.symm) hQ.2.2.2)
  have h61 : gi (gpi (gpi σ A 6 (nI (kindS (ch (n4 P p) 0)))) x0 6 (nI (p + 6))) x0 6 = nI (p + 6) := gi_gpi_eq
  have wkA : ∀ b j, (wx x0 b j ∨ b = A) → wk x0 c N b j := fun b j z => by
    rcases z with z | z
    · exact Or.inl z
    · rw [z]
      exact Or.inr (Or.inr ⟨hA, hAx⟩)
  have Q1 := hQ.fr G (fun b j _ z => wkA b j z) h81
  have nW : ∀ b j, N b → gk σ b = 6 ∨ gk σ b = 101 → ¬ (wx x0 b j ∨ b = A) := fun b j m _ z => by
    rcases z with z | z
    · exact hQ.2.1.2.2.2.2.2.2 (z.1 ▸ m)
    · exact hA (z ▸ m)
  have ht1 := ht.fr G hQ.1 nW
  have hs1 := hs.fr G hQ.1 nW
  have st : ∀ {j : Nat} {w : Int32}, j ≠ 6 → gi σ A j = w → gi (gpi (gpi σ A 6 (nI (kindS (ch (n4 P p) 0)))) x0 6 (nI (p + 6))) A j = w := fun hj e => by rw [gi_gpi_ne (Or.inl hAx), gi_gpi_ne (Or.inr hj)]; exact e
  have e4 := st (by decide) i4
  have e2 := st (by decide) i2
  have e3 := st (by decide) i3
  have e7 := st (by decide) i7
  have e5 := st (by decide) i5
  have e6 : gi (gpi (gpi σ A 6 (nI (kindS (ch (n4 P p) 0)))) x0 6 (nI (p + 6))) A 6 = nI (kindS (ch (n4 P p) 0)) := by rw [gi_gpi_ne (Or.inl hAx), gi_gpi_eq]
  have k1 : gk (gpi (gpi σ A 6 (nI (kindS (ch (n4 P p) 0)))) x0 6 (nI (p + 6))) A = 3 := gk_gpi.trans (gk_gpi.trans ka)
  have g0 : gr (gpi (gpi σ A 6 (nI (kindS (ch (n4 P p) 0)))) x0 6 (nI (p + 6))) A 0 = some s := gr_gpi.trans (gr_gpi.trans r0)
  have g1 : gr (gpi (gpi σ A 6 (nI (kindS (ch (n4 P p) 0)))) x0 6 (nI (p + 6))) A 1 = some t := gr_gpi.trans (gr_gpi.trans r1)
  have c1 : gc (gpi (gpi σ A 6 (nI (kindS (ch (n4 P p) 0)))) x0 6 (nI (p + 6))) = gc σ := gc_gpi.trans gc_gpi
  have s1 : gs (gpi (gpi σ A 6 (nI (kindS (ch (n4 P p) 0)))) x0 6 (nI (p + 6))) = gs σ := gs_gpi.trans gs_gpi
  have x1 : gx (gpi (gpi σ A 6 (nI (kindS (ch (n4 P p) 0)))) x0 6 (nI (p + 6))) = gx σ := gx_gpi.trans gx_gpi
  generalize gpi (gpi σ A 6 (nI (kindS (ch (n4 P p) 0)))) x0 6 (nI (p + 6)) = σ1 at *
  have hI : xI0 N A (U2 P.1 p) (n4 P p) (fun _ => 0) σ1 := ⟨⟨k1, e4, e6, t, g1, ht1⟩, e7, e5⟩
  have hAtt := x_att_ok (C := C) (S := S) g hfu (by omega) (xStp0 (np := 0) (fin := fin) (m := none) g hfu hA hQ.2.1.2.2.2.2.2.2 hAx hfs) Q1 (fun b z => by have := hNx b z; omega) hI h61 hq (by omega) (by omega)
  rw [show p + 6 + 2 = p + 8 from rfl] at hAtt
  revert hAtt
  cases attsS P 0 fin (U2 P.1 p) (n4 P p) 0 (U2 P.1 (p + 6)) (p + 8) 0 (fun _ => 0) with
  | error er =>
    rintro ⟨σ2, b1, b2, b3, b4, b5⟩
    rw [show x_attributes fu σ1 x0 c (0 : Int32) (some A) none = _ from b1, Option.bind_some, if_pos rfl]
    exact ⟨σ2, rfl, b2, G.trw b3 (fun b j _ z => z.elim (hWx b j) (fun z => z ▸ hWA j)) (fun b j _ z => z.elim (hWx b j) (fun z => z.1 ▸ hWA j)), b4, b5⟩
  | ok a =>
    rintro ⟨σ2, b1, ⟨b2, b3, b4, b5, b6⟩, b7⟩
    rw [show x_attributes fu σ1 x0 c (0 : Int32) (some A) none = _ from b1, Option.bind_some, if_neg i10, nx_eq, nI_1, eb_ok]
    have G2 : Fq (fun b j => wx x0 b j ∨ b = A) σ σ2 := G.trw b7 (fun _ _ _ z => z) (fun b j _ z => z.elim Or.inl (fun z => Or.inr z.1))
    have lA1 : A < gx σ1 := by omega
    have nA2 : ∀ j, ¬ (j = 5 ∨ j = 7) → ¬ w0F x0 A A j := fun j hj z => z.elim (fun z => hAx z.1) (fun z => hj z.2)
    obtain ⟨⟨m1, m2, m3, t', m4, m5⟩, m6, m7⟩ := b2
    have hFd : xFd P N A (p, a) σ2 := ⟨m1, ⟨m2, (b7.gi lA1 (nA2 2 (by omega))).trans e2, (b7.gi lA1 (nA2 3 (by omega))).trans e3, m6, m7⟩, ⟨s, (b7.gr lA1 (nA2 0 (by omega))).trans g0, hs1.fr b7 Q1.1 (fun b j m _ z => by
      rcases z with z | z
      · exact hQ.2.1.2.2.2.2.2.2 (z.1 ▸ m)
      · exact hA (z.1 ▸ m))⟩, t', m4, m5⟩
    exact xC.trw G2 (cont a σ2 G2 b3 b4 hFd b5 b6) (fun b j _ z => z.elim (hWx b j) (fun z => z ▸ hWA j)) (fun b j _ z => z.elim (hWx b j) (fun z => z ▸ hWf j))
end Fld2
