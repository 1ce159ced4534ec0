/-! the head of the class: whole, and the twin -/
section Head2
set_option maxRecDepth 100000
section X
variable {P : PD} {x0 c lo hd fa fu : Nat} {N : Nat → Prop} {σ : GS}
/-- what the component keeps of the head -/
def xH (P : PD) (c hd : Nat) (σ : GS) : Prop := gi σ c 0 = nI (U2 P.1 hd) ∧ gi σ c 3 = nI (U2 P.1 (hd + 2)) ∧ gi σ c 4 = nI (U2 P.1 (hd + 4)) ∧ ∃ a, gr σ c 5 = some a ∧ gk σ a = 100 ∧ gn σ a = U2 P.1 (hd + 6)
theorem xH.fr {σ' : GS} {W : Nat → Nat → Prop} (h : xH P c hd σ) (f : Fq W σ σ') (hw : WF σ) (hc : gk σ c = 2) (hW : ∀ j, j ≤ 5 → ¬ W c j) : xH P c hd σ' := by
  obtain ⟨h0, h3, h4, a, h5, h6, h7⟩ := h
  have lc : c < gx σ := hw.lt (by rw [hc]; decide)
  have la : a < gx σ := hw.lt (by rw [h6]; decide)
  exact ⟨(f.gi lc (hW 0 (by omega))).trans h0, (f.gi lc (hW 3 (by omega))).trans h3, (f.gi lc (hW 4 (by omega))).trans h4, a, (f.gr lc (hW 5 (by omega))).trans h5, f.gk hw h6 (by decide), (f.gn la).trans h7⟩
def wh (x0 c a j : Nat) : Prop := wx x0 a j ∨ (a = c ∧ j ≤ 5 ∧ j ≠ 1 ∧ j ≠ 2)
theorem wh.k {a j : Nat} (h : wh x0 c a j) : wk x0 c N a j := by
  rcases h with z | z
  · exact Or.inl z
  · exact Or.inr (Or.inl ⟨z.1, by have := z.2; omega⟩)
theorem xQ.pc {j : Nat} {w : Int32} (h : xQ P x0 c lo N hd fa σ) (hj : j = 0 ∨ j = 3 ∨ j = 4 ∨ 12 ≤ j) : xQ P x0 c lo N hd fa (gpi σ c j w) := by
  have ncx : c ≠ x0 := fun z => by have := h.2.1.2.1.1; rw [← z, h.2.1.1.1.1] at this; exact absurd this (by decide)
  refine h.fr (W := fun a i => a = c ∧ i = j) (Fq.pi ⟨rfl, rfl⟩) (fun a i _ z => Or.inr (Or.inl ⟨z.1, by have := z.2; omega⟩)) (h.2.2.2.pi (fun z => ncx z.symm))
theorem x_h219 {C S e : Nat} (g : PG P) (rg : RG P) (hfu : 131072 < fu) (hh : hd + 8 + 2 * U2 P.1 (hd + 6) ≤ P.2.1) (hQ : xQ P x0 c lo N hd fa σ) (hNx : ∀ a, N a → a < gx σ) (h0 : gi σ c 0 = nI (U2 P.1 hd)) (h3 : gi σ c 3 = nI (U2 P.1 (hd + 2))) (he : e = U2 P.1 (hd + 4)) (hC : C + 1 ≤ gc σ) (hS : S + U2 P.1 (hd + 6) ≤ gs σ) :
    xC x0 (wh x0 c) C S (fcS P hd (U2 P.1 (hd + 6)) 0) (fun _ σ' => Z8 x0 σ' ∧ C ≤ gc σ' ∧ S ≤ gs σ' ∧ xH P c hd σ') σ (x_checkHead_219 fu σ x0 c (nI e)) := by
  have hn := g.1
  have hu := U2_lt P.1 (hd + 6)
  have hx := hQ.2.1.2.1.1
  have hc := hQ.2.1.1.1.1
  have lc : c < gx σ := hQ.1.lt (by rw [hc]; decide)
  have lx : x0 < gx σ := hQ.1.lt (by rw [hx]; decide)
  have ncx : c ≠ x0 := fun z => by rw [z, hx] at hc; exact absurd hc (by decide)
  unfold x_checkHead_219
  rw [ckT_ok hc, nx_eq]
  have Q1 := hQ.pc (j := 4) (w := nI e) (by omega)
  have f1 : Fq (wh x0 c) σ (gpi σ c 4 (nI e)) := Fq.pi (Or.inr ⟨rfl, by omega⟩)
  have e0 : gi (gpi σ c 4 (nI e)) c 0 = nI (U2 P.1 hd) := (gi_gpi_ne (Or.inr (by decide))).trans h0
  have e3 : gi (gpi σ c 4 (nI e)) c 3 = nI (U2 P.1 (hd + 2)) := (gi_gpi_ne (Or.inr (by decide))).trans h3
  have e4 : gi (gpi σ c 4 (nI e)) c 4 = nI (U2 P.1 (hd + 4)) := by rw [gi_gpi_eq, he]
  have x1 : gx (gpi σ c 4 (nI e)) = gx σ := gx_gpi
  have c1 : gc (gpi σ c 4 (nI e)) = gc σ := gc_gpi
  have s1 : gs (gpi σ c 4 (nI e)) = gs σ := gs_gpi
  refine xC.fr f1 ?_
  generalize gpi σ c 4 (nI e) = σ1 at *
  have hx1 := Q1.2.1.2.1.1
  rw [ckT_ok hx1, Q1.2.1.2.2.2.2.2.1.1, nI_6, x_u2_ok Q1.2.1.2.1 (by omega), Option.bind_some, nA_step (by omega) ⟨by omega, by omega⟩ Q1.2.1.1.1.1 (by omega)]
  have f2 : Fq (wh x0 c) σ1 (nA σ1 100 (U2 P.1 (hd + 6)) c 5) := fq_nA (Or.inr ⟨rfl, by omega⟩)
  have h82 : Z8 x0 (nA σ1 100 (U2 P.1 (hd + 6)) c 5) := Z8.nA (by omega) Q1.2.2.2
  have Q2 := Q1.fr f2 (fun a j _ z => z.k) h82
  have r5 : gr (nA σ1 100 (U2 P.1 (hd + 6)) c 5) c 5 = some (gx σ1) := by rw [gr_nA, if_pos ⟨rfl, rfl⟩]
  have k5 : gk (nA σ1 100 (U2 P.1 (hd + 6)) c 5) (gx σ1) = 100 := by rw [gk_nA, if_pos rfl]
  have n5 : gn (nA σ1 100 (U2 P.1 (hd + 6)) c 5) (gx σ1) = U2 P.1 (hd + 6) := by rw [gn_nA, if_pos rfl]
  have c2 : gc (nA σ1 100 (U2 P.1 (hd + 6)) c 5) = gc σ1 - 1 := gc_nA
  have s2 : gs (nA σ1 100 (U2 P.1 (hd + 6)) c 5) = gs σ1 - U2 P.1 (hd + 6) := gs_nA
  have d0 : gi (nA σ1 100 (U2 P.1 (hd + 6)) c 5) c 0 = nI (U2 P.1 hd) := by rw [gi_nA, if_neg (by omega)]; exact e0
  have d3 : gi (nA σ1 100 (U2 P.1 (hd + 6)) c 5) c 3 = nI (U2 P.1 (hd + 2)) := by rw [gi_nA, if_neg (by omega)]; exact e3
  have d4 : gi (nA σ1 100 (U2 P.1 (hd + 6)) c 5) c 4 = nI (U2 P.1 (hd + 4)) := by rw [gi_nA, if_neg (by omega)]; exact e4
  have x2 : gx (nA σ1 100 (U2 P.1 (hd + 6)) c 5) = gx σ1 + 1 := gx_nA
  generalize nA σ1 100 (U2 P.1 (hd + 6)) c 5 = σ2 at *
  have := x_h249 (fa := fa) (C := C) (S := S) g rg hfu hu hh (fun z => by have := hNx _ z; omega) (show gx σ1 ≠ x0 by omega) (U2 P.1 (hd + 6)) 0 fu σ2 (by omega) (by omega) Q2 r5 k5 n5 (fun j hj => by omega) (by omega) (by omega)
  refine xC.trw f2 (xC.mo this (W' := fun a j => wx x0 a j ∨ a = gx σ1) (fun a j _ z => z) (Nat.le_refl _) (Nat.le_refl _) (Q' := fun _ σ' => Z8 x0 σ' ∧ C ≤ gc σ' ∧ S ≤ gs σ' ∧ xH P c hd σ') (fun _ σ' _ q f => ⟨q.1, q.2.1, q.2.2, ?_⟩)) (fun _ _ _ z => z) (fun a j ha z => ?_)
  · have hH : xH P c hd σ2 := ⟨d0, d3, d4, gx σ1, r5, k5, n5⟩
    refine hH.fr f Q2.1 Q2.2.1.1.1.1 (fun j _ z => ?_)
    rcases z with z | z
    · exact ncx z.1
    · omega
  · rcases z with z | z
    · exact Or.inl z
    · omega
theorem x_h22 {x : Int32} : (hbad x → (if (x &&& (512 : Int32)) = 0 then x_checkHead_22 fu σ x0 c x (0 : Int32) else x_checkHead_22 fu σ x0 c x (1 : Int32)) = x_checkHead_88 fu σ x0) ∧ (¬ hbad x → (if (x &&& (512 : Int32)) = 0 then x_checkHead_22 fu σ x0 c x (0 : Int32) else x_checkHead_22 fu σ x0 c x (1 : Int32)) = x_checkHead_99 fu σ x0 c x (if (x &&& (512 : Int32)) = 0 then 0 else 1)) := by
  unfold hbad x_checkHead_22
  have e88 : ckT σ 1 x0 ((x_wrong σ x0 (15 : Int32) (gi σ x0 9)).bind fun r9 => ckN .boolean r9.1 (some (r9.1, r9.2))) = x_checkHead_88 fu σ x0 := rfl
  rw [e88]
  have i10' : ¬ (1 : Int32) = 0 := i10
  by_cases h5 : (x &&& (512 : Int32)) = 0 <;> by_cases h32 : (x &&& (32768 : Int32)) = 0 <;> by_cases h8 : (x &&& (8192 : Int32)) = 0 <;> by_cases h16 : (x &&& (16 : Int32)) = 0 <;> by_cases h10 : (x &&& (1024 : Int32)) = 0 <;> by_cases h164 : (x &&& (16432 : Int32)) = 0 <;> simp [h5, h32, h8, h16, h10, h164]
theorem x_checkHead_ok {C S : Nat} (g : PG P) (rg : RG P) (hfu : 131072 < fu) (hh : hd + 8 + 2 * U2 P.1 (hd + 6) ≤ P.2.1) (hQ : xQ P x0 c lo N hd fa σ) (hNx : ∀ a, N a → a < gx σ) (hC : C + 1 ≤ gc σ) (hS : S + U2 P.1 (hd + 6) ≤ gs σ) :
    xC x0 (wh x0 c) C S (headS P hd) (fun _ σ' => Z8 x0 σ' ∧ C ≤ gc σ' ∧ S ≤ gs σ' ∧ xH P c hd σ') σ (x_checkHead fu σ x0 c) := by
  have hn := g.1
  have hx := hQ.2.1.2.1.1
  have hc := hQ.2.1.1.1.1
  have e9 := hQ.2.1.2.2.2.2.2.1.1
  have h8 := hQ.2.2.2
  have ncx : c ≠ x0 := fun z => by rw [z, hx] at hc; exact absurd hc (by decide)
  unfold x_checkHead x_checkHead_0 headS
  rw [ckT_ok hx, e9, x_u2_ok hQ.2.1.2.1 (by omega), Option.bind_some]
  by_cases hb : hbad (nI (U2 P.1 hd))
  · rw [ci_t hb, x_h22.1 hb]
    unfold x_checkHead_88
    rw [ckT_ok hx, e9, show (15 : Int32) = nI 15 from rfl, x_wrong_ok hx h8, Option.bind_some, ckN_0]
    exact xC.er (fun _ _ z => Or.inl z) (by omega) (by omega)
  rw [ci_f hb, x_h22.2 hb]
  unfold x_checkHead_99
  rw [ckT_ok hc, nx_eq]
  have Q1 := hQ.pc (j := 0) (w := nI (U2 P.1 hd)) (by omega)
  have f1 : Fq (wh x0 c) σ (gpi σ c 0 (nI (U2 P.1 hd))) := Fq.pi (Or.inr ⟨rfl, by omega⟩)
  have e0 : gi (gpi σ c 0 (nI (U2 P.1 hd))) c 0 = nI (U2 P.1 hd) := gi_gpi_eq
  have x1 : gx (gpi σ c 0 (nI (U2 P.1 hd))) = gx σ := gx_gpi
  have c1 : gc (gpi σ c 0 (nI (U2 P.1 hd))) = gc σ := gc_gpi
  have s1 : gs (gpi σ c 0 (nI (U2 P.1 hd))) = gs σ := gs_gpi
  refine xC.fr f1 ?_
  generalize gpi σ c 0 (nI (U2 P.1 hd)) = σ1 at *
  have hx1 := Q1.2.1.2.1.1
  have e91 := Q1.2.1.2.2.2.2.2.1.1
  rw [ckT_ok hx1, e91, nI_2, x_u2_ok Q1.2.1.2.1 (by omega), Option.bind_some, x_plain Q1.2.1.1 g rg (U2_lt _ _)]
  by_cases q1 : plC P (U2 P.1 (hd + 2))
  case neg =>
    rw [ci_f q1, ci_f q1]
    unfold x_checkHead_136
    rw [ckT_ok hx1, e91, nI_2, show (16 : Int32) = nI 16 from rfl, x_wrong_ok hx1 Q1.2.2.2, Option.bind_some, ckN_0]
    exact xC.er (fun _ _ z => Or.inl z) (by omega) (by omega)
  rw [ci_t q1, ci_t q1, nx_eq]
  have Q2 := Q1.pc (j := 3) (w := nI (U2 P.1 (hd + 2))) (by omega)
  have f2 : Fq (wh x0 c) σ1 (gpi σ1 c 3 (nI (U2 P.1 (hd + 2)))) := Fq.pi (Or.inr ⟨rfl, by omega⟩)
  have d0 : gi (gpi σ1 c 3 (nI (U2 P.1 (hd + 2)))) c 0 = nI (U2 P.1 hd) := (gi_gpi_ne (Or.inr (by decide))).trans e0
  have d3 : gi (gpi σ1 c 3 (nI (U2 P.1 (hd + 2)))) c 3 = nI (U2 P.1 (hd + 2)) := gi_gpi_eq
  have x2 : gx (gpi σ1 c 3 (nI (U2 P.1 (hd + 2)))) = gx σ1 := gx_gpi
  have c2 : gc (gpi σ1 c 3 (nI (U2 P.1 (hd + 2)))) = gc σ1 := gc_gpi
  have s2 : gs (gpi σ1 c 3 (nI (U2 P.1 (hd + 2)))) = gs σ1 := gs_gpi
  refine xC.fr f2 ?_
  generalize gpi σ1 c 3 (nI (U2 P.1 (hd + 2))) = σ2 at *
  have hx2 := Q2.2.1.2.1.1
  have e92 := Q2.2.1.2.2.2.2.2.1.1
  rw [e92, nI_4, x_u2_ok Q2.2.1.2.1 (by omega), Option.bind_some, x_plain Q2.2.1.1 g rg (U2_lt _ _)]
  have e206 : x_checkHead_206 fu σ2 x0 = some (0, xwr σ2 x0 17 (hd + 4)) := by
    unfold x_checkHead_206
    rw [ckT_ok hx2, e92, nI_4, show (17 : Int32) = nI 17 from rfl, x_wrong_ok hx2 Q2.2.2.2, Option.bind_some, ckN_0]
  have er := xC.er (α := Unit) (x0 := x0) (W := wh x0 c) (σ := σ2) (C := C) (S := S) (r := 17) (p := hd + 4) (Q := fun _ σ' => Z8 x0 σ' ∧ C ≤ gc σ' ∧ S ≤ gs σ' ∧ xH P c hd σ') (fun _ _ z => Or.inl z) (by omega) (by omega)
  rw [e206]
  have fin := x_h219 (C := C) (S := S) (e := U2 P.1 (hd + 4)) g rg hfu hh Q2 (fun a z => by have := hNx a z; omega) d0 d3 rfl (by omega) (by omega)
  by_cases q2 : plC P (U2 P.1 (hd + 4))
  case neg =>
    rw [ci_f q2, ci_f (fun w => q2 w.1)]
    exact er
  rw [ci_t q2]
  by_cases h5 : (nI (U2 P.1 hd) &&& (512 : Int32)) = 0
  · rw [if_pos h5, if_pos rfl, ci_t ⟨q2, Or.inl h5⟩]
    exact fin
  obtain ⟨s, t1, t2⟩ := x_classAt_ok Q2.2.1.1 g rg q2.1
  rw [if_neg h5, if_neg i10, t1, Option.bind_some, ckK_ok t2.1, x_equals_ok t2 (Q2.2.2.1 2 (by omega)).1 hfu, Option.bind_some, show xl 2 = lT 12 from rfl]
  by_cases q3 : clT P (U2 P.1 (hd + 4)) = lT 12
  · rw [ib_t q3, ci_t ⟨q2, Or.inr q3⟩]
    exact fin
  · rw [ib_f q3, ci_f (fun w => w.2.elim h5 q3)]
    exact er
end X
section M
variable {P : PD} {N hd fu : Nat} {S : Nat → List Nat} {σ : SM}
theorem m_wL (r : Nat) {p : Nat} : ((m_wrong σ (no_index (OfNat.ofNat r)) (nI p)).bind fun r1 => ckN .boolean r1.1 (some (r1.1, r1.2))) = some (0, mwr σ r p) := m_wr_ok
theorem m_className_ok (h : mPo P N S σ) (g : PG P) (rg : RG P) {e : Nat} (ht : tgP P e = 7) : ∃ s, m_className σ (nI e) = some (nI s) ∧ s < N ∧ S s = clT P e ∧ mW (clT P e) (nI s) σ := by
  have h2 := (rg.cl g ht).1.2
  obtain ⟨s, s1, s2, s3, s4⟩ := m_sym h g h2
  refine ⟨s, ?_, s2, s3, s4⟩
  unfold m_className m_className_0
  rw [m_ix1 h g (by omega), Option.bind_some, s1, Option.bind_some]
theorem m_plainClass_ok (h : mPo P N S σ) (g : PG P) (rg : RG P) {e : Nat} (he : e < 65536) : m_plainClass σ (nI e) = some (bi (plC P e)) := by
  have hl := tgP_lt P e
  unfold m_plainClass m_plainClass_0 m_plainClass_29
  rw [m_tag_ok h g he, Option.bind_some]
  by_cases ht : tgP P e = 7
  · obtain ⟨s, s1, s2, s3, s4⟩ := m_className_ok h g rg ht
    have hc := s4.2.1 0
    rw [if_pos (show nI (tgP P e) = (7 : Int32) by rw [ht]; rfl), s1, Option.bind_some, show (0 : Int32) = nI 0 from rfl, s4.2.2.2 0 (rg.cl g ht).2.2, Option.bind_some]
    by_cases q : ch (clT P e) 0 = 91
    · rw [if_pos (by rw [q]; rfl), bi_f (fun w => w.2 q)]
      rfl
    · rw [if_neg (nL (k := 91) (by omega) (by omega) q), bi_t ⟨ht, q⟩]
  · rw [if_neg (nL (k := 7) (by omega) (by omega) ht), bi_f (fun w => ht w.1)]
theorem m_h288 {k242 : SM → Int32 → Int32 → Option (Int32 × SM)} {k : Nat} {x4 : Int32} (h : mPo P N S σ) (g : PG P) (rg : RG P) (h54 : σ.1 54 = nI hd) (hh : hd + 8 + 2 * k + 2 ≤ P.2.1) (he : tgP P (fcE P hd k) = 7) (hj : ∀ j, j < k → tgP P (fcE P hd j) = 7) : ∀ d j f, j + d = k → d < f → m_checkClass_288L fu k242 f σ x4 (nI k) (nI (hd + 8 + 2 * k)) (nI j) = ci (∀ i, j ≤ i → i < k → clT P (fcE P hd i) ≠ clT P (fcE P hd k)) (k242 σ x4 (nI (k + 1))) (some (0, mwr σ 18 (hd + 8 + 2 * k))) := by
  have hn := g.1
  intro d
  induction d with
  | zero =>
    intro j f hj0 hf
    obtain ⟨f, rfl⟩ : ∃ z9, f = z9 + 1 := ⟨f - 1, by omega⟩
    show m_checkClass_288 fu k242 (m_checkClass_288L fu k242 f) σ x4 (nI k) (nI (hd + 8 + 2 * k)) (nI j) = _
    unfold m_checkClass_288
    rw [if_pos (nI_le (by omega) (by omega)), nx_eq, nI_1, ci_t (fun i i1 i2 => by omega)]
  | succ d ih =>
    intro j f hj0 hf
    obtain ⟨f, rfl⟩ : ∃ z9, f = z9 + 1 := ⟨f - 1, by omega⟩
    show m_checkClass_288 fu k242 (m_checkClass_288L fu k242 f) σ x4 (nI k) (nI (hd + 8 + 2 * k)) (nI j) = _
    unfold m_checkClass_288
    obtain ⟨s, s1, s2, s3, s4⟩ := m_className_ok h g rg (hj j (by omega))
    obtain ⟨t, t1, t2, t3, t4⟩ := m_className_ok h g rg he
    have ep : (nI hd + 8) + 2 * nI j = nI (hd + 8 + 2 * j) := by
      rw [nI_8, show (2 : Int32) = nI 2 from rfl, pk_mul, nI_add]
    have eu : m_u2 σ (nI (hd + 8 + 2 * j)) = some (nI (fcE P hd j)) := m_u2_ok h.1.1 (by omega)
    have ev : m_u2 σ (nI (hd + 8 + 2 * k)) = some (nI (fcE P hd k)) := m_u2_ok h.1.1 (by omega)
    rw [if_neg (nI_ge (by omega) (by omega)), h54, ep, eu, Option.bind_some, s1, Option.bind_some, ev, Option.bind_some, t1, Option.bind_some, nx_eq, nI_1, m_wL 18]
    have hi := h.2.1.inj s2 t2
    rw [s3, t3] at hi
    by_cases q : clT P (fcE P hd j) = clT P (fcE P hd k)
    · rw [if_pos (hi.mpr q), ci_f (fun w => w j (Nat.le_refl _) (by omega) q)]
    · rw [if_neg (fun w => q (hi.mp w)), ih (j + 1) f (by omega) (by omega)]
      rw [show (∀ i, j ≤ i → i < k → clT P (fcE P hd i) ≠ clT P (fcE P hd k)) = (∀ i, j + 1 ≤ i → i < k → clT P (fcE P hd i) ≠ clT P (fcE P hd k)) from propext ⟨fun w i i1 i2 => w i (by omega) i2, fun w i i1 i2 => by
        rcases Nat.lt_or_ge j i with z | z
        · exact w i z i2
        · rw [show i = j by omega]
          exact q⟩]
theorem m_h242 {nn : Nat} (h : mPo P N S σ) (g : PG P) (rg : RG P) (hfu : 131072 < fu) (h54 : σ.1 54 = nI hd) (hnn : nn < 65536) (hh : hd + 8 + 2 * nn ≤ P.2.1) : ∀ d k f, k + d = nn → d < f → (∀ j, j < k → tgP P (fcE P hd j) = 7) →
    mRes [47, 48, 58, 59, 60, 61] [] (fcS P hd d k) (fun _ σ' => σ' = sf σ 61 (nI nn)) σ (m_checkClass_242L fu f σ (nI nn) (nI k)) := by
  have hn := g.1
  intro d
  induction d with
  | zero =>
    intro k f hk hf hj
    obtain ⟨f, rfl⟩ : ∃ z9, f = z9 + 1 := ⟨f - 1, by omega⟩
    show mRes _ _ _ _ _ (m_checkClass_242 fu (m_checkClass_242L fu f) σ (nI nn) (nI k))
    unfold m_checkClass_242 fcS
    rw [if_pos (nI_le (by omega) (by omega)), nx_eq]
    exact ⟨_, rfl, rfl, mfr.sf (by decide)⟩
  | succ d ih =>
    intro k f hk hf hj
    obtain ⟨f, rfl⟩ : ∃ z9, f = z9 + 1 := ⟨f - 1, by omega⟩
    show mRes _ _ _ _ _ (m_checkClass_242 fu (m_checkClass_242L fu f) σ (nI nn) (nI k))
    unfold m_checkClass_242 fcS
    have ep : (nI hd + 8) + 2 * nI k = nI (hd + 8 + 2 * k) := by
      rw [nI_8, show (2 : Int32) = nI 2 from rfl, pk_mul, nI_add]
    have eu : m_u2 σ (nI (hd + 8 + 2 * k)) = some (nI (fcE P hd k)) := m_u2_ok h.1.1 (by omega)
    rw [if_neg (nI_ge (by omega) (by omega)), h54, ep, nx_eq, eu, Option.bind_some, m_plainClass_ok h g rg (show fcE P hd k < 65536 from U2_lt _ _), Option.bind_some, m_wL 18]
    by_cases q : plC P (fcE P hd k)
    case neg =>
      rw [ib_f q, ci_f q]
      exact mRes.er (by decide) (by decide)
    have := m_h288 (fu := fu) (k242 := m_checkClass_242L fu f) (k := k) (x4 := nI nn) h g rg h54 (by omega) q.1 hj k 0 fu (by omega) (by omega)
    rw [ib_t q, ci_t q, show m_checkClass_288L fu (m_checkClass_242L fu f) fu σ (nI nn) (nI k) (nI (hd + 8 + 2 * k)) (0 : Int32) = _ from this]
    by_cases q2 : ∀ j, 0 ≤ j → j < k → clT P (fcE P hd j) ≠ clT P (fcE P hd k)
    case neg =>
      rw [ci_f q2, ci_f q2]
      exact mRes.er (by decide) (by decide)
    rw [ci_t q2, ci_t q2]
    refine ih (k + 1) f (by omega) (by omega) (fun j hj2 => ?_)
    rcases Nat.lt_or_ge j k with z | z
    · exact hj j z
    · rw [show j = k by omega]
      exact q.1
theorem m_h27 {x : Int32} : (hbad x → (if (x &&& (512 : Int32)) = 0 then m_checkClass_27 fu σ x (0 : Int32) else m_checkClass_27 fu σ x (1 : Int32)) = m_checkClass_110 fu σ) ∧ (¬ hbad x → (if (x &&& (512 : Int32)) = 0 then m_checkClass_27 fu σ x (0 : Int32) else m_checkClass_27 fu σ x (1 : Int32)) = m_checkClass_121 fu σ (if (x &&& (512 : Int32)) = 0 then 0 else 1)) := by
  have e82 : ∀ t, m_checkClass_82 fu σ x t = m_checkClass_110 fu σ := by
    intro t
    unfold m_checkClass_82
    repeat' split
    all_goals rfl
  unfold hbad m_checkClass_27
  simp only [e82]
  have i10' : ¬ (1 : Int32) = 0 := i10
  by_cases h5 : (x &&& (512 : Int32)) = 0 <;> by_cases h32 : (x &&& (32768 : Int32)) = 0 <;> by_cases h8 : (x &&& (8192 : Int32)) = 0 <;> by_cases h16 : (x &&& (16 : Int32)) = 0 <;> by_cases h10 : (x &&& (1024 : Int32)) = 0 <;> by_cases h164 : (x &&& (16432 : Int32)) = 0 <;> simp [h5, h32, h8, h16, h10, h164]
theorem m_checkClass_ok (h : mPo P N S σ) (g : PG P) (rg : RG P) (hfu : 131072 < fu) (h54 : σ.1 54 = nI hd) (hh : hd + 8 + 2 * U2 P.1 (hd + 6) ≤ P.2.1) :
    mRes [47, 48, 58, 59, 60, 61] [] (headS P hd) (fun _ σ' => σ'.1 58 = nI (U2 P.1 hd) ∧ σ'.1 61 = nI (U2 P.1 (hd + 6))) σ (m_checkClass fu σ) := by
  have hn := g.1
  unfold m_checkClass m_checkClass_0 headS
  rw [h54, m_u2_ok h.1.1 (by omega), Option.bind_some, nx_eq]
  have f1 : mfr [47, 48, 58, 59, 60, 61] [] σ (sf σ 58 (nI (U2 P.1 hd))) := mfr.sf (by decide)
  have h1 := h.fr f1 (by decide) (by decide)
  have a54 : (sf σ 58 (nI (U2 P.1 hd))).1 54 = nI hd := (sf_ne (by decide)).trans h54
  have a58 : (sf σ 58 (nI (U2 P.1 hd))).1 58 = nI (U2 P.1 hd) := sf_eq
  refine mRes.fr f1 ?_
  generalize sf σ 58 (nI (U2 P.1 hd)) = σ1 at *
  by_cases hb : hbad (nI (U2 P.1 hd))
  · rw [ci_t hb, m_h27.1 hb]
    unfold m_checkClass_110
    rw [a54, m_wL 15]
    exact mRes.er (by decide) (by decide)
  rw [ci_f hb, m_h27.2 hb]
  unfold m_checkClass_121
  have ev : m_u2 σ1 (nI (hd + 2)) = some (nI (U2 P.1 (hd + 2))) := m_u2_ok h1.1.1 (by omega)
  rw [a54, nI_2, ev, Option.bind_some, m_plainClass_ok h1 g rg (U2_lt _ _), Option.bind_some, m_wL 16]
  by_cases q1 : plC P (U2 P.1 (hd + 2))
  case neg =>
    rw [ib_f q1, ci_f q1]
    exact mRes.er (by decide) (by decide)
  obtain ⟨s, s1, s2, s3, s4⟩ := m_className_ok h1 g rg q1.1
  rw [ib_t q1, ci_t q1, Option.bind_some, s1, Option.bind_some, nx_eq]
  have f2 : mfr [47, 48, 58, 59, 60, 61] [] σ1 (sf σ1 59 (nI s)) := mfr.sf (by decide)
  have h2 := h1.fr f2 (by decide) (by decide)
  have b54 : (sf σ1 59 (nI s)).1 54 = nI hd := (sf_ne (by decide)).trans a54
  have b58 : (sf σ1 59 (nI s)).1 58 = nI (U2 P.1 hd) := (sf_ne (by decide)).trans a58
  refine mRes.fr f2 ?_
  generalize sf σ1 59 (nI s) = σ2 at *
  rw [b54, nI_4, m_u2_ok h2.1.1 (by omega), Option.bind_some, m_plainClass_ok h2 g rg (U2_lt _ _), Option.bind_some]
  have e204 : m_checkClass_204 fu σ2 = some (0, mwr σ2 17 (hd + 4)) := by
    unfold m_checkClass_204
    rw [b54, nI_4, m_wL 17]
  rw [e204]
  by_cases q2 : plC P (U2 P.1 (hd + 4))
  case neg =>
    rw [ib_f q2, ci_f (fun w => q2 w.1)]
    exact mRes.er (by decide) (by decide)
  obtain ⟨t, t1, t2, t3, t4⟩ := m_className_ok h2 g rg q2.1
  have fin : mRes [47, 48, 58, 59, 60, 61] [] (fcS P hd (U2 P.1 (hd + 6)) 0) (fun _ σ' => σ'.1 58 = nI (U2 P.1 hd) ∧ σ'.1 61 = nI (U2 P.1 (hd + 6))) σ2 (m_checkClass_217 fu σ2 (nI (U2 P.1 (hd + 4)))) := by
    unfold m_checkClass_217
    rw [t1, Option.bind_some, nx_eq]
    have f3 : mfr [47, 48, 58, 59, 60, 61] [] σ2 (sf σ2 60 (nI t)) := mfr.sf (by decide)
    have h3 := h2.fr f3 (by decide) (by decide)
    have c54 : (sf σ2 60 (nI t)).1 54 = nI hd := (sf_ne (by decide)).trans b54
    have c58 : (sf σ2 60 (nI t)).1 58 = nI (U2 P.1 hd) := (sf_ne (by decide)).trans b58
    refine mRes.fr f3 ?_
    generalize sf σ2 60 (nI t) = σ3 at *
    rw [c54, nI_6, m_u2_ok h3.1.1 (by omega), Option.bind_some]
    have hu := U2_lt P.1 (hd + 6)
    refine (m_h242 h3 g rg hfu c54 hu hh (U2 P.1 (hd + 6)) 0 fu (by omega) (by omega) (fun j hj => by omega)).mo (fun _ z => z) (fun _ z => z) (fun _ σ' _ q _ => ?_)
    rw [q]
    exact ⟨(sf_ne (by decide)).trans c58, sf_eq⟩
  rw [ib_t q2]
  by_cases h5 : (nI (U2 P.1 hd) &&& (512 : Int32)) = 0
  · rw [if_pos h5, if_pos rfl, ci_t ⟨q2, Or.inl h5⟩]
    exact fin
  have hi := h2.2.1.i11 t2
  rw [t3] at hi
  rw [if_neg h5, if_neg i10, t1, Option.bind_some]
  by_cases q3 : clT P (U2 P.1 (hd + 4)) = lT 12
  · rw [if_pos (hi.mpr q3), ci_t ⟨q2, Or.inr q3⟩]
    exact fin
  · rw [if_neg (fun w => q3 (hi.mp w)), ci_f (fun w => w.2.elim h5 q3)]
    exact mRes.er (by decide) (by decide)
end M
end Head2
