/-! the Code attribute: the component -/
section XCode
set_option maxRecDepth 100000
theorem cmp_ge {a b : Nat} (ha : a < 2 ^ 63) (hb : b < 2 ^ 63) : 0 ≤ lg_cmp (lN a) (lN b) ↔ b ≤ a := by
  have := cmp_lt ha hb
  constructor
  · intro h
    exact Nat.le_of_not_lt fun w => absurd (this.mpr w) (Int32.not_lt.mpr h)
  · intro h
    exact Int32.not_lt.mp fun w => by have := this.mp w; omega
theorem cmp_gt {a b : Nat} (ha : a < 2 ^ 63) (hb : b < 2 ^ 63) : 0 < lg_cmp (lN a) (lN b) ↔ b < a := by
  have := cmp_le ha hb
  constructor
  · intro h
    exact Nat.lt_of_not_le fun w => absurd (this.mpr w) (Int32.not_le.mpr h)
  · intro h
    exact Int32.not_le.mp fun w => by have := this.mp w; omega
theorem ckN_1 {α : Type} {k : Option α} : ckN .boolean (1 : Int32) k = k := by
  unfold ckN
  rw [if_pos (by decide)]
/-- the code that the component keeps of a method, whose Code lies at cp -/
def xCd (F : Nat → Int32) (m cp : Nat) (σ : GS) : Prop := (gi σ m 10 = 1 ∧ gi σ m 8 = nI (U2 F cp) ∧ gi σ m 9 = nI (U2 F (cp + 2))) ∧ (∃ ca, (gr σ m 11 = some ca ∧ m < ca) ∧ gk σ ca = 101 ∧ gn σ ca = U4 F (cp + 4) ∧ ∀ k, k < U4 F (cp + 4) → gi σ ca k = (F (cp + 8 + k)).toInt8.toInt32) ∧ ∃ ra, gr σ m 12 = some ra ∧ gk σ ra = 100 ∧ gn σ ra = 4 * U2 F (cp + 8 + U4 F (cp + 4)) ∧ ∀ k, k < U2 F (cp + 8 + U4 F (cp + 4)) → ∀ j, j < 4 → gi σ ra (4 * k + j) = nI (U2 F (cp + 8 + U4 F (cp + 4) + 2 + 8 * k + 2 * j))
theorem xCd.fr {F : Nat → Int32} {m cp : Nat} {σ σ' : GS} {W : Nat → Nat → Prop} (h : xCd F m cp σ) (f : Fq W σ σ') (hw : WF σ) (hm : gk σ m = 4) (h1 : ∀ j, 8 ≤ j → j ≤ 12 → ¬ W m j) (h2 : ∀ a j, gk σ a = 100 ∨ (gk σ a = 101 ∧ m < a) → ¬ W a j) : xCd F m cp σ' := by
  obtain ⟨⟨a1, a2, a3⟩, ⟨ca, ⟨b1, b1l⟩, b2, b3, b4⟩, ra, c1, c2, c3, c4⟩ := h
  have lm : m < gx σ := hw.lt (by rw [hm]; decide)
  have lca : ca < gx σ := hw.lt (by rw [b2]; decide)
  have lra : ra < gx σ := hw.lt (by rw [c2]; decide)
  exact ⟨⟨(f.gi lm (h1 10 (by omega) (by omega))).trans a1, (f.gi lm (h1 8 (by omega) (by omega))).trans a2, (f.gi lm (h1 9 (by omega) (by omega))).trans a3⟩, ⟨ca, ⟨(f.gr lm (h1 11 (by omega) (by omega))).trans b1, b1l⟩, f.gk hw b2 (by decide), (f.gn lca).trans b3, fun k hk => (f.gi lca (h2 ca k (Or.inr ⟨b2, b1l⟩))).trans (b4 k hk)⟩, ra, (f.gr lm (h1 12 (by omega) (by omega))).trans c1, f.gk hw c2 (by decide), (f.gn lra).trans c3, fun k hk j hj => (f.gi lra (h2 ra _ (Or.inl c2))).trans (c4 k hk j hj)⟩
variable {P : PD} {x0 c lo hd fa fu m : Nat} {N : Nat → Prop} {σ : GS}
theorem x_c273s {k263 : GS → Nat → Nat → Nat → Int32 → Int64 → Int32 → Int32 → Int32 → Int32 → Option (Int32 × GS)} {x3 x10 x11 : Int32} {x7 : Int64} {q k j ra rows f : Nat} (hF : xF P.1 P.2.1 x0 σ) (hn : P.2.1 ≤ 1300) (hm : gk σ m = 4) (h12 : gr σ m 12 = some ra) (kr : gk σ ra = 100) (nr : gn σ ra = 4 * rows) (hk : k < rows) (hj : j < 4) (hq : q + 2 + 8 * rows ≤ P.2.1) : x_code_273L fu k263 (f + 1) σ x0 c m x3 x7 (nI q) x10 x11 (nI k) (nI j) = x_code_273L fu k263 f (gpi σ ra (4 * k + j) (nI (U2 P.1 (q + 2 + 8 * k + 2 * j)))) x0 c m x3 x7 (nI q) x10 x11 (nI k) (nI (j + 1)) := by
  show x_code_273 fu k263 (x_code_273L fu k263 f) σ x0 c m x3 x7 (nI q) x10 x11 (nI k) (nI j) = _
  unfold x_code_273
  rw [if_neg (show ¬ (4 : Int32) ≤ nI j from nI_ge (b := 4) hj (by omega)), ckT_ok hm, ckT_ok hF.1, nI_2, show (8 : Int32) * nI k = nI (8 * k) from pk_mul 8 k, nI_add, show (2 : Int32) * nI j = nI (2 * j) from pk_mul 2 j, nI_add, x_u2_ok hF (by omega), Option.bind_some, h12, ckK_ok kr, nr, show (4 : Int32) * nI k = nI (4 * k) from pk_mul 4 k, nI_add, ckIn_n (by omega) (by omega), nx_eq, nx_eq, nI_1, nI_clamp (by omega)]
theorem x_c273e {k263 : GS → Nat → Nat → Nat → Int32 → Int64 → Int32 → Int32 → Int32 → Int32 → Option (Int32 × GS)} {x9 x10 x11 : Int32} {pl sz s k ra rows f : Nat} (h : xPc P c lo N σ) (g : PG P) (hx : gk σ x0 = 1) (h8 : Z8 x0 σ) (hm : gk σ m = 4) (h12 : gr σ m 12 = some ra) (kr : gk σ ra = 100) (nr : gn σ ra = 4 * rows) (hk : k < rows) (hrows : rows < 65536) (hsz : sz < 2 ^ 32) (hv : ∀ j, j < 4 → gi σ ra (4 * k + j) = nI (U2 P.1 (s + 2 * j))) : x_code_273L fu k263 (f + 1) σ x0 c m (nI pl) (lN sz) x9 x10 x11 (nI k) (nI 4) = ci (rowP P sz s) (k263 σ x0 c m (nI pl) (lN sz) x9 x10 x11 (nI (k + 1))) (some (0, xwr σ x0 43 pl)) := by
  show x_code_273 fu k263 (x_code_273L fu k263 f) σ x0 c m (nI pl) (lN sz) x9 x10 x11 (nI k) (nI 4) = _
  have v0 : gi σ ra (4 * k) = nI (U2 P.1 s) := hv 0 (by omega)
  have v1 : gi σ ra (4 * k + 1) = nI (U2 P.1 (s + 2)) := hv 1 (by omega)
  have v2 : gi σ ra (4 * k + 2) = nI (U2 P.1 (s + 4)) := hv 2 (by omega)
  have v3 : gi σ ra (4 * k + 3) = nI (U2 P.1 (s + 6)) := hv 3 (by omega)
  have u0 := U2_lt P.1 s
  have u1 := U2_lt P.1 (s + 2)
  have u2 := U2_lt P.1 (s + 4)
  have u3 := U2_lt P.1 (s + 6)
  have e408 : x_code_408 fu k263 σ x0 c m (nI pl) (lN sz) x9 x10 x11 (nI k) = some (0, xwr σ x0 43 pl) := by
    unfold x_code_408 x_code_409
    rw [if_pos rfl, ckT_ok hx, show (43 : Int32) = nI 43 from rfl, x_wrong_ok hx h8, Option.bind_some, ckN_0]
  have e404 : x_code_404 fu k263 σ x0 c m (nI pl) (lN sz) x9 x10 x11 (nI k) = k263 σ x0 c m (nI pl) (lN sz) x9 x10 x11 (nI (k + 1)) := by
    unfold x_code_404 x_code_409
    rw [if_neg i10, nx_eq, nI_1]
  unfold x_code_273
  rw [if_pos (show (4 : Int32) ≤ nI 4 by decide), ckT_ok hm, h12, ckK_ok kr, nr, show (4 : Int32) * nI k = nI (4 * k) from pk_mul 4 k, nI_3, nI_1, nI_2, nI_clamp (by omega), nI_clamp (by omega), nI_clamp (by omega), nI_clamp (by omega), ckIn_n (by omega) (by omega), nx_eq, ckIn_n (by omega) (by omega), ckIn_n (by omega) (by omega), ckIn_n (by omega) (by omega), ckIn_n (by omega) (by omega), v0, v1, v2, v3, e408, e404, nI_l (by omega), nI_l (by omega)]
  unfold rowP
  by_cases q1 : U2 P.1 (s + 2) ≤ U2 P.1 s
  · rw [if_pos (nI_le q1 (by omega)), ci_f (fun w => by have := w.1; omega)]
  rw [if_neg (show ¬ nI (U2 P.1 (s + 2)) ≤ nI (U2 P.1 s) from nI_ge (by omega) (by omega))]
  by_cases q2 : sz < U2 P.1 (s + 2)
  · rw [if_pos ((cmp_gt (by show U2 P.1 (s + 2) < _; omega) (by omega)).mpr q2), ci_f (fun w => by have := w.2.1; omega)]
  rw [if_neg (fun w => q2 ((cmp_gt (by show U2 P.1 (s + 2) < _; omega) (by omega)).mp w))]
  by_cases q3 : sz ≤ U2 P.1 (s + 4)
  · rw [if_pos ((cmp_ge (by show U2 P.1 (s + 4) < _; omega) (by omega)).mpr q3), ci_f (fun w => by have := w.2.2.1; omega)]
  rw [if_neg (fun w => q3 ((cmp_ge (by show U2 P.1 (s + 4) < _; omega) (by omega)).mp w))]
  by_cases q4 : U2 P.1 (s + 6) = 0
  · rw [if_pos (show nI (U2 P.1 (s + 6)) = 0 by show nI (U2 P.1 (s + 6)) = 0; rw [q4]; rfl), ci_t ⟨by omega, by omega, by omega, Or.inl q4⟩]
  rw [if_neg (show ¬ nI (U2 P.1 (s + 6)) = 0 from nL (k := 0) (by show U2 P.1 (s + 6) < _; omega) (by omega) q4), show (7 : Int32) = nI 7 from rfl, x_isTag_ok h g (show U2 P.1 (s + 6) < 65536 from u3) (by omega) (by omega), Option.bind_some]
  by_cases q5 : tgP P (U2 P.1 (s + 6)) = 7
  · rw [ib_t (show tgP P (U2 P.1 (s + 6)) = 7 from q5), ci_t ⟨by omega, by omega, by omega, Or.inr q5⟩]
  · rw [ib_f (show ¬ tgP P (U2 P.1 (s + 6)) = 7 from q5), ci_f (fun w => w.2.2.2.elim q4 q5)]
def wm (x0 m a j : Nat) : Prop := wx x0 a j ∨ (a = m ∧ 8 ≤ j ∧ j ≤ 12)
theorem x_c263 {C S pl sz q rows tail ra e : Nat} (g : PG P) (hfu : 131072 < fu) (hsz : sz < 2 ^ 32) (hr : rows < 65536) (hq : q + 2 + 8 * rows ≤ P.2.1) (htl : tail + 2 ≤ P.2.1) (hsk : skA P.1 P.2.1 (U2 P.1 tail) (tail + 2) = .ok e) (hNr : ¬ N ra) (hrx : ra ≠ x0) (hrm : ra ≠ m) (hmx : m ≠ x0) : ∀ d k f σ, k + d = rows → d < f → xQ P x0 c lo N hd fa σ → gk σ m = 4 → gr σ m 12 = some ra → gk σ ra = 100 → gn σ ra = 4 * rows → (∀ i, i < k → ∀ j, j < 4 → gi σ ra (4 * i + j) = nI (U2 P.1 (q + 2 + 8 * i + 2 * j))) → C ≤ gc σ → S ≤ gs σ →
    xC x0 (fun a j => wx x0 a j ∨ a = ra) C S (ci (∀ i, k ≤ i → i < rows → rowP P sz (q + 2 + 8 * i)) (atN P (U2 P.1 tail) (tail + 2) false) (.error (43, pl))) (fun _ σ' => Z8 x0 σ' ∧ (∀ i, i < rows → ∀ j, j < 4 → gi σ' ra (4 * i + j) = nI (U2 P.1 (q + 2 + 8 * i + 2 * j))) ∧ C ≤ gc σ' ∧ S ≤ gs σ') σ (x_code_263L fu f σ x0 c m (nI pl) (lN sz) (nI q) (nI rows) (nI tail) (nI k)) := by
  have hn := g.1
  intro d
  induction d with
  | zero =>
    intro k f σ hk hf hQ hm h12 kr nr hv hC hS
    obtain ⟨f, rfl⟩ : ∃ z9, f = z9 + 1 := ⟨f - 1, by omega⟩
    show xC _ _ _ _ _ _ _ (x_code_263 fu (x_code_263L fu f) σ x0 c m (nI pl) (lN sz) (nI q) (nI rows) (nI tail) (nI k))
    unfold x_code_263
    rw [if_pos (nI_le (by omega) (by omega)), ckT_ok hQ.2.1.2.1.1, nx_eq, ci_t (fun i i1 i2 => by omega)]
    have f1 : Fq (fun a j => wx x0 a j ∨ a = ra) σ (gpi σ x0 6 (nI tail)) := Fq.pi (Or.inl ⟨rfl, by omega⟩)
    refine xC.fr f1 ?_
    have hA := x_atn_ok (m := m) (C := C) (S := S) g hfu hQ.at6 gi_gpi_eq htl hsk (by rw [gc_gpi]; exact hC) (by rw [gs_gpi]; exact hS)
    have h1 : ∀ i, i < rows → ∀ j, j < 4 → gi (gpi σ x0 6 (nI tail)) ra (4 * i + j) = nI (U2 P.1 (q + 2 + 8 * i + 2 * j)) := fun i hi j hj => (gi_gpi_ne (Or.inl hrx)).trans (hv i (by omega) j hj)
    have lr : ra < gx (gpi σ x0 6 (nI tail)) := by rw [gx_gpi]; exact hQ.1.lt (by rw [kr]; decide)
    have c6 : gc (gpi σ x0 6 (nI tail)) = gc σ := gc_gpi
    have s6 : gs (gpi σ x0 6 (nI tail)) = gs σ := gs_gpi
    generalize gpi σ x0 6 (nI tail) = σ1 at *
    have hA2 := hA.mo (W' := fun a j => wx x0 a j ∨ a = ra) (C' := C) (S' := S) (Q' := fun _ σ' => Z8 x0 σ' ∧ (∀ i, i < rows → ∀ j, j < 4 → gi σ' ra (4 * i + j) = nI (U2 P.1 (q + 2 + 8 * i + 2 * j))) ∧ C ≤ gc σ' ∧ S ≤ gs σ') (fun _ _ _ z => Or.inl z) (Nat.le_refl _) (Nat.le_refl _) (fun _ σ' _ w fq => ⟨w.1, fun i hi j hj => (fq.gi lr (fun z => hrx z.1)).trans (h1 i hi j hj), by omega, by omega⟩)
    revert hA2
    cases atN P (U2 P.1 tail) (tail + 2) false with
    | error e =>
      rintro ⟨σ', a1, a2, a3⟩
      refine ⟨σ', ?_, a2, a3⟩
      rw [a1, Option.bind_some, ckN_0]
    | ok u =>
      rintro ⟨σ', a1, a2, a3⟩
      refine ⟨σ', ?_, a2, a3⟩
      rw [a1, Option.bind_some]
      exact ckN_1
  | succ d ih =>
    intro k f σ hk hf hQ hm h12 kr nr hv hC hS
    obtain ⟨f, rfl⟩ : ∃ z9, f = z9 + 1 := ⟨f - 1, by omega⟩
    show xC _ _ _ _ _ _ _ (x_code_263 fu (x_code_263L fu f) σ x0 c m (nI pl) (lN sz) (nI q) (nI rows) (nI tail) (nI k))
    unfold x_code_263
    obtain ⟨fu', hfu'⟩ : ∃ z, fu = z + 5 := ⟨fu - 5, by omega⟩
    have key : x_code_273L fu (x_code_263L fu f) fu σ x0 c m (nI pl) (lN sz) (nI q) (nI rows) (nI tail) (nI k) (0 : Int32) = x_code_273L fu (x_code_263L fu f) (fu' + 5) σ x0 c m (nI pl) (lN sz) (nI q) (nI rows) (nI tail) (nI k) (nI 0) := by rw [← hfu']; rfl
    have hN4 : ∀ {σ1 : GS} {j : Nat} {v : Int32}, xQ P x0 c lo N hd fa σ1 → xQ P x0 c lo N hd fa (gpi σ1 ra j v) := fun {σ1 j v} w => w.fr (W := fun a _ => a = ra) (Fq.pi rfl) (fun a i _ z => by
      have z : a = ra := z
      rw [z]
      exact Or.inr (Or.inr ⟨hNr, hrx⟩)) (w.2.2.2.pi (fun z => hrx z.symm))
    have f1 : ∀ (σ1 : GS) (j : Nat) (v : Int32), Fq (fun a j => wx x0 a j ∨ a = ra) σ1 (gpi σ1 ra j v) := fun σ1 j v => Fq.pi (Or.inr rfl)
    rw [if_neg (nI_ge (by omega) (by omega)), key]
    have st : ∀ (j fz : Nat) (σ1 : GS), j < 4 → xQ P x0 c lo N hd fa σ1 → gk σ1 m = 4 → gr σ1 m 12 = some ra → gk σ1 ra = 100 → gn σ1 ra = 4 * rows → x_code_273L fu (x_code_263L fu f) (fz + 1) σ1 x0 c m (nI pl) (lN sz) (nI q) (nI rows) (nI tail) (nI k) (nI j) = x_code_273L fu (x_code_263L fu f) fz (gpi σ1 ra (4 * k + j) (nI (U2 P.1 (q + 2 + 8 * k + 2 * j)))) x0 c m (nI pl) (lN sz) (nI q) (nI rows) (nI tail) (nI k) (nI (j + 1)) := fun j fz σ1 hj w1 w2 w3 w4 w5 => x_c273s w1.2.1.2.1 hn w2 w3 w4 w5 (by omega) hj hq
    have Q1 := hN4 (j := 4 * k + 0) (v := nI (U2 P.1 (q + 2 + 8 * k + 2 * 0))) hQ
    have Q2 := hN4 (j := 4 * k + 1) (v := nI (U2 P.1 (q + 2 + 8 * k + 2 * 1))) Q1
    have Q3 := hN4 (j := 4 * k + 2) (v := nI (U2 P.1 (q + 2 + 8 * k + 2 * 2))) Q2
    have Q4 := hN4 (j := 4 * k + 3) (v := nI (U2 P.1 (q + 2 + 8 * k + 2 * 3))) Q3
    rw [st 0 _ σ (by omega) hQ hm h12 kr nr, st 1 _ _ (by omega) Q1 (gk_gpi.trans hm) (gr_gpi.trans h12) (gk_gpi.trans kr) (gn_gpi.trans nr), st 2 _ _ (by omega) Q2 (gk_gpi.trans (gk_gpi.trans hm)) (gr_gpi.trans (gr_gpi.trans h12)) (gk_gpi.trans (gk_gpi.trans kr)) (gn_gpi.trans (gn_gpi.trans nr)), st 3 _ _ (by omega) Q3 (gk_gpi.trans (gk_gpi.trans (gk_gpi.trans hm))) (gr_gpi.trans (gr_gpi.trans (gr_gpi.trans h12))) (gk_gpi.trans (gk_gpi.trans (gk_gpi.trans kr))) (gn_gpi.trans (gn_gpi.trans (gn_gpi.trans nr)))]
    have F4 := (f1 σ (4 * k + 0) (nI (U2 P.1 (q + 2 + 8 * k + 2 * 0)))).tr ((f1 _ (4 * k + 1) (nI (U2 P.1 (q + 2 + 8 * k + 2 * 1)))).tr ((f1 _ (4 * k + 2) (nI (U2 P.1 (q + 2 + 8 * k + 2 * 2)))).tr (f1 _ (4 * k + 3) (nI (U2 P.1 (q + 2 + 8 * k + 2 * 3))))))
    have gm4 : gk (gpi (gpi (gpi (gpi σ ra (4 * k + 0) (nI (U2 P.1 (q + 2 + 8 * k + 2 * 0)))) ra (4 * k + 1) (nI (U2 P.1 (q + 2 + 8 * k + 2 * 1)))) ra (4 * k + 2) (nI (U2 P.1 (q + 2 + 8 * k + 2 * 2)))) ra (4 * k + 3) (nI (U2 P.1 (q + 2 + 8 * k + 2 * 3)))) m = 4 := gk_gpi.trans (gk_gpi.trans (gk_gpi.trans (gk_gpi.trans hm)))
    have gr4 : gr (gpi (gpi (gpi (gpi σ ra (4 * k + 0) (nI (U2 P.1 (q + 2 + 8 * k + 2 * 0)))) ra (4 * k + 1) (nI (U2 P.1 (q + 2 + 8 * k + 2 * 1)))) ra (4 * k + 2) (nI (U2 P.1 (q + 2 + 8 * k + 2 * 2)))) ra (4 * k + 3) (nI (U2 P.1 (q + 2 + 8 * k + 2 * 3)))) m 12 = some ra := gr_gpi.trans (gr_gpi.trans (gr_gpi.trans (gr_gpi.trans h12)))
    have kr4 : gk (gpi (gpi (gpi (gpi σ ra (4 * k + 0) (nI (U2 P.1 (q + 2 + 8 * k + 2 * 0)))) ra (4 * k + 1) (nI (U2 P.1 (q + 2 + 8 * k + 2 * 1)))) ra (4 * k + 2) (nI (U2 P.1 (q + 2 + 8 * k + 2 * 2)))) ra (4 * k + 3) (nI (U2 P.1 (q + 2 + 8 * k + 2 * 3)))) ra = 100 := gk_gpi.trans (gk_gpi.trans (gk_gpi.trans (gk_gpi.trans kr)))
    have nr4 : gn (gpi (gpi (gpi (gpi σ ra (4 * k + 0) (nI (U2 P.1 (q + 2 + 8 * k + 2 * 0)))) ra (4 * k + 1) (nI (U2 P.1 (q + 2 + 8 * k + 2 * 1)))) ra (4 * k + 2) (nI (U2 P.1 (q + 2 + 8 * k + 2 * 2)))) ra (4 * k + 3) (nI (U2 P.1 (q + 2 + 8 * k + 2 * 3)))) ra = 4 * rows := gn_gpi.trans (gn_gpi.trans (gn_gpi.trans (gn_gpi.trans nr)))
    have c4 : gc (gpi (gpi (gpi (gpi σ ra (4 * k + 0) (nI (U2 P.1 (q + 2 + 8 * k + 2 * 0)))) ra (4 * k + 1) (nI (U2 P.1 (q + 2 + 8 * k + 2 * 1)))) ra (4 * k + 2) (nI (U2 P.1 (q + 2 + 8 * k + 2 * 2)))) ra (4 * k + 3) (nI (U2 P.1 (q + 2 + 8 * k + 2 * 3)))) = gc σ := gc_gpi.trans (gc_gpi.trans (gc_gpi.trans gc_gpi))
    have s4 : gs (gpi (gpi (gpi (gpi σ ra (4 * k + 0) (nI (U2 P.1 (q + 2 + 8 * k + 2 * 0)))) ra (4 * k + 1) (nI (U2 P.1 (q + 2 + 8 * k + 2 * 1)))) ra (4 * k + 2) (nI (U2 P.1 (q + 2 + 8 * k + 2 * 2)))) ra (4 * k + 3) (nI (U2 P.1 (q + 2 + 8 * k + 2 * 3)))) = gs σ := gs_gpi.trans (gs_gpi.trans (gs_gpi.trans gs_gpi))
    have v4 : ∀ i, i < k + 1 → ∀ j, j < 4 → gi (gpi (gpi (gpi (gpi σ ra (4 * k + 0) (nI (U2 P.1 (q + 2 + 8 * k + 2 * 0)))) ra (4 * k + 1) (nI (U2 P.1 (q + 2 + 8 * k + 2 * 1)))) ra (4 * k + 2) (nI (U2 P.1 (q + 2 + 8 * k + 2 * 2)))) ra (4 * k + 3) (nI (U2 P.1 (q + 2 + 8 * k + 2 * 3)))) ra (4 * i + j) = nI (U2 P.1 (q + 2 + 8 * i + 2 * j)) := by
      intro i hi j hj
      rcases Nat.lt_or_ge i k with z | z
      · rw [gi_gpi_ne (Or.inr (by omega)), gi_gpi_ne (Or.inr (by omega)), gi_gpi_ne (Or.inr (by omega)), gi_gpi_ne (Or.inr (by omega))]
        exact hv i z j hj
      · obtain rfl : i = k := by omega
        rcases (by omega : j = 0 ∨ j = 1 ∨ j = 2 ∨ j = 3) with w | w | w | w
        · rw [w, gi_gpi_ne (Or.inr (by omega)), gi_gpi_ne (Or.inr (by omega)), gi_gpi_ne (Or.inr (by omega)), gi_gpi_eq]
        · rw [w, gi_gpi_ne (Or.inr (by omega)), gi_gpi_ne (Or.inr (by omega)), gi_gpi_eq]
        · rw [w, gi_gpi_ne (Or.inr (by omega)), gi_gpi_eq]
        · rw [w, gi_gpi_eq]
    refine xC.fr F4 ?_
    generalize gpi (gpi (gpi (gpi σ ra (4 * k + 0) (nI (U2 P.1 (q + 2 + 8 * k + 2 * 0)))) ra (4 * k + 1) (nI (U2 P.1 (q + 2 + 8 * k + 2 * 1)))) ra (4 * k + 2) (nI (U2 P.1 (q + 2 + 8 * k + 2 * 2)))) ra (4 * k + 3) (nI (U2 P.1 (q + 2 + 8 * k + 2 * 3))) = σ4 at *
    rw [show nI (3 + 1) = nI 4 from rfl, x_c273e Q4.2.1.1 g Q4.2.1.2.1.1 Q4.2.2.2 gm4 gr4 kr4 nr4 (by omega) hr hsz (fun j hj => v4 k (by omega) j hj)]
    by_cases hrow : rowP P sz (q + 2 + 8 * k)
    · rw [ci_t hrow]
      have := ih (k + 1) f σ4 (by omega) (by omega) Q4 gm4 gr4 kr4 nr4 v4 (by omega) (by omega)
      rw [show (∀ i, k ≤ i → i < rows → rowP P sz (q + 2 + 8 * i)) = (∀ i, k + 1 ≤ i → i < rows → rowP P sz (q + 2 + 8 * i)) from propext ⟨fun w i i1 i2 => w i (by omega) i2, fun w i i1 i2 => by
        rcases Nat.lt_or_ge k i with z | z
        · exact w i z i2
        · rw [show i = k by omega]
          exact hrow⟩]
      exact this
    · rw [ci_f hrow, ci_f (fun w => hrow (w k (Nat.le_refl _) (by omega)))]
      exact xC.er (fun _ _ z => Or.inl z) (by omega) (by omega)
end XCode
