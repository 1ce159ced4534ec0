/-! the rest of the checks; a class as a whole: the component -/
section XRest
set_option maxRecDepth 100000
variable {P : PD} {x0 c lo hd fa fu : Nat} {N : Nat → Prop} {σ : GS}
noncomputable def mthS (P : PD) (face fin : Prop) (p : Nat) : FE (Nat → MR) := mtS P face fin (U2 P.1 p) 0 (p + 2) (fun _ => (0, fun _ => 0))
theorem mem8 {F : Nat → Int32} {n : Nat} : ∀ d p r, skM F n d p = .ok r → p ≤ n → p + 8 * d ≤ n ∧ p ≤ r ∧ r ≤ n := by
  intro d
  induction d with
  | zero => intro p r h hp; cases h; omega
  | succ d ih =>
    intro p r h hp
    obtain ⟨a1, r', a2, a3, a4, a5⟩ := skM_su h
    have := ih r' r a5 a3
    omega
/-- the methods that the component keeps; T: what is told of their instructions -/
def xMs (P : PD) (N : Nat → Prop) (c nn B : Nat) (M : Nat → MR) (T : Nat → MR → GS → Prop) (σ : GS) : Prop := ∃ mm, (gr σ c 13 = some mm ∧ B ≤ mm) ∧ gk σ mm = 107 ∧ gn σ mm = nn ∧ ∀ j, j < nn → ∃ f, (gr σ mm j = some f ∧ mm < f) ∧ xMt P N c f (M j) σ ∧ T f (M j) σ
theorem x_checkMethods_ok {C S fl p q : Nat} {fin : Prop} (g : PG P) (hfu : 131072 < fu) (hQ : xQ P x0 c lo N hd fa σ) (hNx : ∀ a, N a → a < gx σ) (h0 : gi σ c 0 = nI fl) (h6 : gi σ x0 6 = nI p) (hq : membS P.1 P.2.1 p = .ok q) (hC : C + (P.2.1 - p) + 1 ≤ gc σ) (hS : S + 5 * (P.2.1 - p) ≤ gs σ) :
    xC x0 (fun a j => wx x0 a j ∨ (a = c ∧ j = 13)) C S (mthS P (¬ (nI fl &&& (512 : Int32)) = 0) fin p) (fun M' σ' => Z8 x0 σ' ∧ gi σ' x0 6 = nI q ∧ xMs P N c (U2 P.1 p) (gx σ) M' (fun f _ σ => gi σ f 14 = 0) σ' ∧ C + (P.2.1 - q) ≤ gc σ' ∧ S + 4 * (P.2.1 - q) ≤ gs σ') σ (x_checkMethods fu σ x0 c) := by
  have hn := g.1
  have hx := hQ.2.1.2.1.1
  have hc := hQ.2.1.1.1.1
  have lx : x0 < gx σ := hQ.1.lt (by rw [hx]; decide)
  have lc : c < gx σ := hQ.1.lt (by rw [hc]; decide)
  have ncx : c ≠ x0 := fun z => by rw [z, hx] at hc; exact absurd hc (by decide)
  have hu := U2_lt P.1 p
  unfold membS at hq
  obtain ⟨_, h1, hq⟩ := eb_inv hq
  have h1 := itS_ok h1
  have hm := mem8 _ _ _ hq (by omega)
  unfold x_checkMethods x_checkMethods_0 mthS
  have A1 : xA P.1 P.2.1 x0 p σ := ⟨hQ.2.1.2.1, h6, hQ.2.2.2⟩
  rw [ckT_ok hx, x_next2_ok A1 (by omega) (by omega), if_neg (by omega), Option.bind_some]
  have G2 : Fq (fun a j => wx x0 a j ∨ (a = c ∧ j = 13)) σ (gpi σ x0 6 (nI (p + 2))) := Fq.pi (Or.inl ⟨rfl, by omega⟩)
  have Q2 : xQ P x0 c lo N hd fa (gpi σ x0 6 (nI (p + 2))) := hQ.at6
  have e6 : gi (gpi σ x0 6 (nI (p + 2))) x0 6 = nI (p + 2) := gi_gpi_eq
  have e0 : gi (gpi σ x0 6 (nI (p + 2))) c 0 = nI fl := (gi_gpi_ne (Or.inl ncx)).trans h0
  have c2 : gc (gpi σ x0 6 (nI (p + 2))) = gc σ := gc_gpi
  have s2 : gs (gpi σ x0 6 (nI (p + 2))) = gs σ := gs_gpi
  have x2 : gx (gpi σ x0 6 (nI (p + 2))) = gx σ := gx_gpi
  show xC x0 _ C S _ _ σ (ckL (nI (U2 P.1 p)) (ckC (gpi σ x0 6 (nI (p + 2))) (nI (U2 P.1 p)).toNatClampNeg _))
  refine xC.fr G2 ?_
  generalize gpi σ x0 6 (nI (p + 2)) = σ2 at *
  rw [nA_step (by omega) ⟨by omega, by omega⟩ Q2.2.1.1.1.1 (by omega)]
  have f3 : Fq (fun a j => wx x0 a j ∨ (a = c ∧ j = 13)) σ2 (nA σ2 107 (U2 P.1 p) c 13) := fq_nA (Or.inr ⟨rfl, rfl⟩)
  have h83 : Z8 x0 (nA σ2 107 (U2 P.1 p) c 13) := Z8.nA (by omega) Q2.2.2.2
  have Q3 := Q2.fr f3 (fun a j _ z => by
    rcases z with z | z
    · exact Or.inl z
    · exact Or.inr (Or.inl ⟨z.1, by have := z.2; omega⟩)) h83
  have r3 : gr (nA σ2 107 (U2 P.1 p) c 13) c 13 = some (gx σ2) := by rw [gr_nA, if_pos ⟨rfl, rfl⟩]
  have k3 : gk (nA σ2 107 (U2 P.1 p) c 13) (gx σ2) = 107 := by rw [gk_nA, if_pos rfl]
  have n3 : gn (nA σ2 107 (U2 P.1 p) c 13) (gx σ2) = U2 P.1 p := by rw [gn_nA, if_pos rfl]
  have e63 : gi (nA σ2 107 (U2 P.1 p) c 13) x0 6 = nI (p + 2) := by rw [gi_nA, if_neg (by omega)]; exact e6
  have e03 : gi (nA σ2 107 (U2 P.1 p) c 13) c 0 = nI fl := by rw [gi_nA, if_neg (by omega)]; exact e0
  have c3 : gc (nA σ2 107 (U2 P.1 p) c 13) = gc σ2 - 1 := gc_nA
  have s3 : gs (nA σ2 107 (U2 P.1 p) c 13) = gs σ2 - U2 P.1 p := gs_nA
  have x3 : gx (nA σ2 107 (U2 P.1 p) c 13) = gx σ2 + 1 := gx_nA
  refine xC.trw f3 (W2 := fun b j => wx x0 b j ∨ b = gx σ2) ?_ (fun _ _ _ z => z) (fun a j ha z => z.elim Or.inl (fun z => by omega))
  generalize nA σ2 107 (U2 P.1 p) c 13 = σ3 at *
  have := x_mt_loop (C := C) (S := S) (mm := gx σ2) (nn := U2 P.1 p) (fl := fl) (q := q) (fin := fin) g hfu hu (fun z => by have := hNx _ z; omega) (by omega) (by omega) (U2 P.1 p) 0 fu (p + 2) (fun _ => (0, fun _ => 0)) σ3 (by omega) (by omega) Q3 (fun a z => by have := hNx a z; omega) r3 k3 n3 e03 e63 (fun j hj => by omega) hq (by omega) (by omega)
  refine this.mo (fun _ _ _ z => z) (Nat.le_refl _) (Nat.le_refl _) (fun M' σ' _ w fq => ⟨w.1, w.2.1, ⟨gx σ2, ⟨(fq.gr (by omega) (fun z => ?_)).trans r3, by omega⟩, fq.gk Q3.1 k3 (by decide), (fq.gn (by omega)).trans n3, w.2.2.1⟩, w.2.2.2.1, w.2.2.2.2⟩)
  rcases z with z | z
  · exact ncx z.1
  · omega
/-- how many bootstrap methods there are -/
def nbS (F : Nat → Int32) (a : Nat → Nat) : Nat := if a 8 = 0 then 0 else U2 F (a 8)
/-- entries that name a bootstrap method -/
def rsS (P : PD) (nb : Nat) : Nat → Nat → FE Unit
  | 0, _ => .ok ()
  | d + 1, k => if (tgP P k = 17 ∨ tgP P k = 18) ∧ nb ≤ paP P k then .error (40, P.2.2.1 k) else rsS P nb d (k + 1)
theorem xBoo.nb {a : Nat → Nat} (h : xBoo P.1 c (a 8) σ) : ∃ ba, gr σ c 21 = some ba ∧ gk σ ba = 108 ∧ gn σ ba = nbS P.1 a := by
  unfold xBoo at h
  unfold nbS
  split at h
  · rename_i z
    rw [if_pos z]
    exact h
  · rename_i z
    rw [if_neg z]
    obtain ⟨ba, h1, h2, h3, -⟩ := h
    exact ⟨ba, h1, h2, h3⟩
theorem nbS_lt (F : Nat → Int32) (a : Nat → Nat) : nbS F a < 65536 := by
  unfold nbS
  split
  · omega
  · exact U2_lt _ _
theorem x_rs_loop {a : Nat → Nat} (hQ : xQ P x0 c lo N hd fa σ) (g : PG P) (hb : xBoo P.1 c (a 8) σ) : ∀ d k f, k + d = ctP P → d < f → x_checkRest_15L fu f σ x0 c (nI k) = xE x0 σ (rsS P (nbS P.1 a) d k) := by
  have hct := ctP_lt P
  have hnb := nbS_lt P.1 a
  obtain ⟨ba, b1, b2, b3⟩ := hb.nb
  obtain ⟨p1, p2, p3, ⟨p4, p5, p6, p7⟩, p8, -⟩ := hQ.2.1
  intro d
  induction d with
  | zero =>
    intro k f hk hf
    obtain ⟨f, rfl⟩ : ∃ z9, f = z9 + 1 := ⟨f - 1, by omega⟩
    show x_checkRest_15 fu (x_checkRest_15L fu f) σ x0 c (nI k) = _
    unfold x_checkRest_15 rsS
    rw [ckT_ok p1.1.1, p1.1.2.2.2, if_pos (nI_le (by omega) (by omega))]
    rfl
  | succ d ih =>
    intro k f hk hf
    obtain ⟨f, rfl⟩ : ∃ z9, f = z9 + 1 := ⟨f - 1, by omega⟩
    show x_checkRest_15 fu (x_checkRest_15L fu f) σ x0 c (nI k) = _
    have hl := tgP_lt P k
    have hpa := paP_lt P k
    have e45 : tgP P k ≠ 0 → x_checkRest_45 fu (x_checkRest_15L fu f) σ x0 c (nI k) = if nbS P.1 a ≤ paP P k then some (0, xwr σ x0 40 (P.2.2.1 k)) else x_checkRest_15L fu f σ x0 c (nI (k + 1)) := by
      intro ht
      unfold x_checkRest_45 x_checkRest_72
      rw [ckT_ok p1.1.1, p1.2.1.2.1, ckK_ok p1.2.2.1.2.1, p1.2.2.2.1.2.1, ckIn_n (by omega) (by omega), b1, ckK_ok b2, nI_clamp (by omega), (x_tg p1 (by omega)).2.1, b3, nx_eq, nI_1, ckT_ok p2.1, p4, ckK_ok p5, p6, ckIn_n (by omega) (by omega), p8 k ht, show (40 : Int32) = nI 40 from rfl, x_wrong_ok p2.1 hQ.2.2.2, Option.bind_some, ckN_0]
      by_cases z : nbS P.1 a ≤ paP P k
      · rw [if_neg (nI_nlt z (by omega)), if_pos z]
      · rw [if_pos (nI_lt (by omega) (by omega)), if_neg z]
    unfold x_checkRest_15 rsS
    rw [ckT_ok p1.1.1, p1.1.2.2.2, if_neg (nI_ge (by omega) (by omega)), p1.2.1.1, ckK_ok p1.2.2.1.1, p1.2.2.2.1.1, ckIn_n (by omega) (by omega), ckIn_n (by omega) (by omega), nI_clamp (by omega), (x_tg p1 (by omega)).1]
    by_cases t : tgP P k = 17 ∨ tgP P k = 18
    · have e : ∀ o1 o2 : Option (Int32 × GS), (if nI (tgP P k) = (17 : Int32) then o1 else if nI (tgP P k) = (18 : Int32) then o1 else o2) = o1 := by
        intro o1 o2
        rcases t with z | z <;> rw [z] <;> rfl
      rw [e, e45 (by omega)]
      by_cases z : nbS P.1 a ≤ paP P k
      · rw [if_pos z, if_pos ⟨t, z⟩]
        rfl
      · rw [if_neg z, if_neg (fun w => z w.2)]
        exact ih (k + 1) f (by omega) (by omega)
    · rw [if_neg (nL (k := 17) (by omega) (by omega) (by omega)), if_neg (nL (k := 18) (by omega) (by omega) (by omega)), if_neg (fun w => t w.1)]
      unfold x_checkRest_72
      rw [nx_eq, nI_1]
      exact ih (k + 1) f (by omega) (by omega)
noncomputable def rstS (P : PD) (fin : Prop) (fl p : Nat) : FE (Nat → Nat) := eb (attsS P 3 fin fl [] 0 (U2 P.1 p) (p + 2) 0 (fun _ => 0)) fun a => eb (rsS P (nbS P.1 a) (ctP P - 1) 1) fun _ => .ok a
theorem x_checkRest_ok {C S fl p q : Nat} {fin : Prop} (g : PG P) (hfu : 131072 < fu) (hfin : fin ↔ ¬ (nI fl &&& (16 : Int32)) = 0) (hQ : xQ P x0 c lo N hd fa σ) (hNx : ∀ a, N a → a < gx σ) (hI : xI3 P.1 c fl (fun _ => 0) σ) (h6 : gi σ x0 6 = nI p) (hq : attrS P.1 P.2.1 p = .ok q) (hC : C + (P.2.1 - p) ≤ gc σ) (hS : S + 2 * (P.2.1 - p) ≤ gs σ) :
    xC x0 (w3C x0 c) C S (rstS P fin fl p) (fun a σ' => Z8 x0 σ' ∧ xI3 P.1 c fl a σ' ∧ C ≤ gc σ' ∧ S ≤ gs σ') σ (x_checkRest fu σ x0 c) := by
  have h1 := g.2.2.2.2.2.2.2.2
  have hct := ctP_lt P
  unfold x_checkRest x_checkRest_0 rstS
  rw [ckT_ok hQ.2.1.2.1.1]
  have hA := x_att_ok (C := C) (S := S) g hfu (by omega) (xStp3 (np := 0) (d := []) (f := none) (m := none) g hfu hfin) hQ hNx hI h6 hq hC hS
  revert hA
  cases attsS P 3 fin fl [] 0 (U2 P.1 p) (p + 2) 0 (fun _ => 0) with
  | error e =>
    rintro ⟨σ', a1, a2, a3, a4, a5⟩
    rw [show x_attributes fu σ x0 c (3 : Int32) none none = _ from a1, Option.bind_some, if_pos rfl]
    exact ⟨σ', rfl, a2, a3, a4, a5⟩
  | ok a =>
    rintro ⟨σ', a1, ⟨a2, a3, a4, a5, a6⟩, a7⟩
    have Q1 := hQ.fr a7 (fun b j _ z => z.k) a3
    rw [show x_attributes fu σ x0 c (3 : Int32) none none = _ from a1, Option.bind_some, if_neg i10, eb_ok]
    have := x_rs_loop (fu := fu) Q1 g a2.2.2 (ctP P - 1) 1 fu (by omega) (by omega)
    rw [show x_checkRest_15L fu fu σ' x0 c (1 : Int32) = _ from this]
    refine xC.fr a7 ?_
    cases rsS P (nbS P.1 a) (ctP P - 1) 1 with
    | error e =>
      obtain ⟨r, pl⟩ := e
      exact xC.er (fun _ _ z => Or.inl z) (by omega) (by omega)
    | ok u => exact xC.ok ⟨a3, a2, by omega, by omega⟩
/-- a whole file -/
abbrev CR : Type := FR × (Nat → MR) × (Nat → MR) × (Nat → Nat)
noncomputable def chkS (F : Nat → Int32) (n : Nat) : FE CR := eb (fileS F n) fun r => eb (cpS (F, n, r.1, r.2.1) (ctP (F, n, r.1, r.2.1) - 1) 1) fun _ => eb (headS (F, n, r.1, r.2.1) r.2.2.1) fun _ => eb (fldS (F, n, r.1, r.2.1) (¬ (nI (U2 F r.2.2.1) &&& (512 : Int32)) = 0) (¬ (nI (U2 F r.2.2.1) &&& (16 : Int32)) = 0) r.2.2.2.1) fun Mf => eb (mthS (F, n, r.1, r.2.1) (¬ (nI (U2 F r.2.2.1) &&& (512 : Int32)) = 0) (¬ (nI (U2 F r.2.2.1) &&& (16 : Int32)) = 0) r.2.2.2.2.1) fun Mm => eb (rstS (F, n, r.1, r.2.1) (¬ (nI (U2 F r.2.2.1) &&& (16 : Int32)) = 0) (U2 F r.2.2.1) r.2.2.2.2.2) fun a => .ok (r, Mf, Mm, a)
end XRest
