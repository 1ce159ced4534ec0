/-! methods: the component -/
section Mth2
set_option maxRecDepth 100000
variable {P : PD} {x0 c lo hd fa fu : Nat} {N : Nat → Prop} {σ : GS}
/-- a method that the component keeps -/
def xMt (P : PD) (N : Nat → Prop) (c m : Nat) (r : MR) (σ : GS) : Prop := (gk σ m = 4 ∧ gr σ m 0 = some c) ∧ (gi σ m 5 = nI (U2 P.1 r.1) ∧ gi σ m 3 = nI (U2 P.1 (r.1 + 2)) ∧ gi σ m 4 = nI (U2 P.1 (r.1 + 4)) ∧ gi σ m 6 = nI (r.2 0) ∧ gi σ m 7 = nI (r.2 2) ∧ gi σ m 13 = nI (npS (n4 P r.1) (U2 P.1 r.1))) ∧ xCo P.1 m (r.2 3) σ ∧ (∃ s, gr σ m 1 = some s ∧ pS N (n2 P r.1) s σ) ∧ ∃ s, gr σ m 2 = some s ∧ pS N (n4 P r.1) s σ
theorem xMt.fr {m : Nat} {r : MR} {σ' : GS} {W : Nat → Nat → Prop} (h : xMt P N c m r σ) (q : Fq W σ σ') (hw : WF σ) (h1 : ∀ a j, gk σ a = 4 → j ≤ 13 → ¬ W a j) (h2 : ∀ a j, gk σ a = 100 ∨ (gk σ a = 101 ∧ m < a) → ¬ W a j) (hN : ∀ a j, N a → gk σ a = 6 ∨ gk σ a = 101 → ¬ W a j) : xMt P N c m r σ' := by
  obtain ⟨⟨k1, k2⟩, ⟨a1, a2, a3, a4, a5, a6⟩, hco, ⟨s, b1, b2⟩, t, c1, c2⟩ := h
  have lf : m < gx σ := hw.lt (by rw [k1]; decide)
  exact ⟨⟨q.gk hw k1 (by decide), (q.gr lf (h1 m _ k1 (by omega))).trans k2⟩, ⟨(q.gi lf (h1 m _ k1 (by omega))).trans a1, (q.gi lf (h1 m _ k1 (by omega))).trans a2, (q.gi lf (h1 m _ k1 (by omega))).trans a3, (q.gi lf (h1 m _ k1 (by omega))).trans a4, (q.gi lf (h1 m _ k1 (by omega))).trans a5, (q.gi lf (h1 m _ k1 (by omega))).trans a6⟩, hco.fr q hw k1 (fun j _ j2 => h1 m j k1 (by omega)) h2, ⟨s, (q.gr lf (h1 m _ k1 (by omega))).trans b1, b2.fr q hw hN⟩, t, (q.gr lf (h1 m _ k1 (by omega))).trans c1, c2.fr q hw hN⟩
theorem x_m307 {k15 : GS → Nat → Nat → Int32 → Int32 → Option (Int32 × GS)} {mm k p a3 s t : Nat} {nm ds : List Nat} {M : Nat → MR} {x2 : Int32} {R : Option (Int32 × GS)} (hQ : xQ P x0 c lo N hd fa σ) (hfu : 131072 < fu) (h13 : gr σ c 13 = some mm) (kf : gk σ mm = 107) (nf : k < gn σ mm) (nf2 : gn σ mm < 65536) (ka : gk σ a3 = 4) (r0 : gr σ a3 1 = some s) (hs : sS nm s σ) (r1 : gr σ a3 2 = some t) (ht : sS ds t σ) (hv : ∀ j, j < k → ∃ f, gr σ mm j = some f ∧ xMt P N c f (M j) σ) (hR : ∀ fz, x_checkMethods_307L fu k15 (fz + 1) σ x0 c x2 (nI k) a3 (nI p) (nI k) = R) : ∀ d j fz, j + d = k → d < fz → x_checkMethods_307L fu k15 fz σ x0 c x2 (nI k) a3 (nI p) (nI j) = ci (∀ i, j ≤ i → i < k → ¬ (n2 P (M i).1 = nm ∧ n4 P (M i).1 = ds)) R (some (0, xwr σ x0 26 p)) := by
  intro d
  induction d with
  | zero =>
    intro j fz hj hf
    obtain ⟨fz, rfl⟩ : ∃ z9, fz = z9 + 1 := ⟨fz - 1, by omega⟩
    obtain rfl : j = k := by omega
    rw [hR, ci_t (fun i i1 i2 => by omega)]
  | succ d ih =>
    intro j fz hj hf
    obtain ⟨fz, rfl⟩ : ∃ z9, fz = z9 + 1 := ⟨fz - 1, by omega⟩
    show x_checkMethods_307 fu k15 (x_checkMethods_307L fu k15 fz) σ x0 c x2 (nI k) a3 (nI p) (nI j) = _
    obtain ⟨f, b1, b2⟩ := hv j (by omega)
    obtain ⟨⟨b3, -⟩, -, -, ⟨u, u1, u2⟩, w, w1, w2⟩ := b2
    unfold x_checkMethods_307 x_checkMethods_364
    rw [if_neg (nI_ge (by omega) (by omega)), ckT_ok hQ.2.1.1.1.1, h13, ckK_ok kf, ckIn_n (by omega) (by omega), nI_clamp (by omega), b1, ckK_ok b3, ckT_ok ka, u1, ckK_ok u2.1.1, r0, ckR_ok, x_equals_ok u2.1 hs hfu, Option.bind_some, ckIn_n (by omega) (by omega), w1, ckK_ok w2.1.1, r1, ckR_ok, x_equals_ok w2.1 ht hfu, Option.bind_some, nx_eq, nI_1, ckT_ok hQ.2.1.2.1.1, show (26 : Int32) = nI 26 from rfl, x_wrong_ok hQ.2.1.2.1.1 hQ.2.2.2, Option.bind_some, ckN_0]
    have nxt : ¬ (n2 P (M j).1 = nm ∧ n4 P (M j).1 = ds) → x_checkMethods_307L fu k15 fz σ x0 c x2 (nI k) a3 (nI p) (nI (j + 1)) = ci (∀ i, j ≤ i → i < k → ¬ (n2 P (M i).1 = nm ∧ n4 P (M i).1 = ds)) R (some (0, xwr σ x0 26 p)) := by
      intro q
      rw [ih (j + 1) fz (by omega) (by omega), show (∀ i, j ≤ i → i < k → ¬ (n2 P (M i).1 = nm ∧ n4 P (M i).1 = ds)) = (∀ i, j + 1 ≤ i → i < k → ¬ (n2 P (M i).1 = nm ∧ n4 P (M i).1 = ds)) from propext ⟨fun w i i1 i2 => w i (by omega) i2, fun w i i1 i2 => by
        rcases Nat.lt_or_ge j i with z | z
        · exact w i z i2
        · rw [show i = j by omega]
          exact q⟩]
    by_cases q1 : n2 P (M j).1 = nm
    · rw [ib_t q1]
      by_cases q2 : n4 P (M j).1 = ds
      · rw [ib_t q2, ci_f (fun w => w j (Nat.le_refl _) (by omega) ⟨q1, q2⟩)]
      · rw [ib_f q2]
        exact nxt (fun w => q2 w.2)
    · rw [ib_f q1]
      exact nxt (fun w => q1 w.1)
theorem npS_lt {t : List Nat} {f : Nat} : npS t f ≤ 256 := by
  unfold npS
  cases h : placesS t with
  | none =>
    show 0 + _ ≤ 256
    split <;> omega
  | some c =>
    have := (placesS_le h).1
    show c + _ ≤ 256
    split <;> omega
theorem sm.m13 {m : Nat} {σ' : GS} (h : sm m [13] σ σ') : Fq (fun b j => b = m ∧ j = 13) σ σ' ∧ gc σ' = gc σ ∧ gs σ' = gs σ ∧ gx σ' = gx σ := ⟨h.fq.mo (fun b j _ z => ⟨z.1, by simpa using z.2⟩), h.2.2.2.2.2.1, h.2.2.2.2.2.2.1, h.2.2.2.2.1⟩
theorem x_mt_tail {k15 : GS → Nat → Nat → Int32 → Int32 → Option (Int32 × GS)} {fin : Prop} {mm nn k p q A C S S2 : Nat} {M : Nat → MR} {D : (Nat → Nat) → FE (Nat → MR)} {Q : (Nat → MR) → GS → Prop} (g : PG P) (hfu : 131072 < fu) (hAx : A ≠ x0) (hAc : A ≠ c) (hA : ¬ N A) (hQ : xQ P x0 c lo N hd fa σ) (hNx : ∀ a, N a → a < gx σ) (h13 : gr σ c 13 = some mm) (kf : gk σ mm = 107) (nf : gn σ mm = nn) (hnn : nn < 65536) (hk : k < nn) (hp : p + 8 ≤ P.2.1) (hq : attrS P.1 P.2.1 (p + 6) = .ok q)
    (ka : gk σ A = 4) (ow : gr σ A 0 = some c) (i5 : gi σ A 5 = nI (U2 P.1 p)) (i3 : gi σ A 3 = nI (U2 P.1 (p + 2))) (i4 : gi σ A 4 = nI (U2 P.1 (p + 4))) (i0 : ∀ j, j = 6 ∨ j = 7 ∨ j = 8 ∨ j = 9 ∨ j = 10 ∨ j = 14 → gi σ A j = 0) {ra : Nat} (r12 : gr σ A 12 = some ra) (kra : gk σ ra = 100) (nra : gn σ ra = 0) {s t : Nat} (r1 : gr σ A 1 = some s) (hs : pS N (n2 P p) s σ) (r2 : gr σ A 2 = some t) (ht : pS N (n4 P p) t σ) (hpl : placesS (n4 P p) ≠ none) (hv : ∀ j, j < k → ∃ f, gr σ mm j = some f ∧ xMt P N c f (M j) σ) (hC : C + (P.2.1 - (p + 6)) ≤ gc σ) (hS2 : S ≤ S2) (hS : S2 + 2 * (P.2.1 - (p + 6)) ≤ gs σ)
    (cont : ∀ a σ', Fq (fun b j => wx x0 b j ∨ b = A) σ σ' → Z8 x0 σ' → gi σ' x0 6 = nI q → xMt P N c A (p, a) σ' → gi σ' A 14 = 0 → C + (P.2.1 - q) ≤ gc σ' → S2 + 2 * (P.2.1 - q) ≤ gs σ' → xC x0 (fun b j => wx x0 b j ∨ b = mm) C S (D a) Q σ' (k15 σ' x0 c (nI nn) (nI (k + 1)))) (W : Nat → Nat → Prop) (hWx : ∀ b j, wx x0 b j → W b j) (hWA : ∀ j, W A j) (hWf : ∀ j, W mm j) :
    xC x0 W C S (ci (∀ j, 0 ≤ j → j < k → ¬ (n2 P (M j).1 = n2 P p ∧ n4 P (M j).1 = n4 P p)) (eb (attsS P 1 fin (U2 P.1 p) (n4 P p) (npS (n4 P p) (U2 P.1 p)) (U2 P.1 (p + 6)) (p + 8) 0 (fun _ => 0)) fun a => ci (¬ a 3 = 0 ↔ bare P p) (.error (27, p)) (D a)) (.error (26, p))) Q σ (x_checkMethods_307L fu k15 fu σ x0 c (nI nn) (nI k) A (nI p) (0 : Int32)) := by
  have hn := g.1
  have hx := hQ.2.1.2.1.1
  have hNx0 := hQ.2.1.2.2.2.2.2.2
  have lA : A < gx σ := hQ.1.lt (by rw [ka]; decide)
  obtain ⟨σd, hd1, hd2, hd3⟩ := x_describe_ok (fu := fu) hfu hQ.1 hQ.2.2.1 hA ka i5 r2 ht hpl
  obtain ⟨fd, cd, sd, xd⟩ := hd2.m13
  have h8d : Z8 x0 σd := Z8.fq fd (hQ.1.lt (by rw [hx]; decide)) (fun _ _ z => hAx z.1.symm) hQ.2.2.2
  have wkA : ∀ b j, (wx x0 b j ∨ b = A) → wk x0 c N b j := fun b j z => by
    rcases z with z | z
    · exact Or.inl z
    · rw [z]
      exact Or.inr (Or.inr ⟨hA, hAx⟩)
  have Qd := hQ.fr fd (fun b j _ z => wkA b j (Or.inr z.1)) h8d
  have hR : ∀ fz, x_checkMethods_307L fu k15 (fz + 1) σ x0 c (nI nn) (nI k) A (nI p) (nI k) = (x_attributes fu (gpi σd x0 6 (nI (p + 6))) x0 c (1 : Int32) none (some A)).bind fun r12 => if r12.1 = 0 then some ((0 : Int32), r12.2) else if bi (n2 P p = lT 11) = 0 then ckT r12.2 4 A (if ((gi r12.2 A 5) &&& (1280 : Int32)) = 0 then x_checkMethods_432 fu k15 r12.2 x0 c (nI nn) (nI k) A (nI p) else x_checkMethods_433 fu k15 r12.2 x0 c (nI nn) (nI k) A (nI p) (1 : Int32)) else x_checkMethods_432 fu k15 r12.2 x0 c (nI nn) (nI k) A (nI p) := by
    intro fz
    show x_checkMethods_307 fu k15 (x_checkMethods_307L fu k15 fz) σ x0 c (nI nn) (nI k) A (nI p) (nI k) = _
    unfold x_checkMethods_307
    rw [if_pos (nI_le (by omega) (by omega)), ckT_ok ka, r1, ckK_ok hs.1.1, x_equals_ok hs.1 (hQ.2.2.1 14 (by omega)).1 hfu, Option.bind_some, show xl 14 = lT 11 from rfl, hd1, Option.bind_some, ckT_ok Qd.2.1.2.1.1, nx_eq, nI_6]
  have hmain := x_m307 (fu := fu) (k15 := k15) (x2 := nI nn) (p := p) hQ hfu h13 kf (by omega) (by omega) ka r1 hs.1 r2 ht.1 hv hR k 0 fu (by omega) (by omega)
  rw [show x_checkMethods_307L fu k15 fu σ x0 c (nI nn) (nI k) A (nI p) (0 : Int32) = _ from hmain]
  by_cases qd : ∀ j, 0 ≤ j → j < k → ¬ (n2 P (M j).1 = n2 P p ∧ n4 P (M j).1 = n4 P p)
  case neg =>
    rw [ci_f qd, ci_f qd]
    exact xC.er hWx (by omega) (by omega)
  rw [ci_t qd, ci_t qd]
  have G : Fq (fun b j => wx x0 b j ∨ b = A) σ (gpi σd x0 6 (nI (p + 6))) := (fd.mo (fun b j _ z => Or.inr z.1)).tr (Fq.pi (Or.inl ⟨rfl, by omega⟩))
  have G' : Fq (fun b j => wx x0 b j ∨ (b = A ∧ j = 13)) σ (gpi σd x0 6 (nI (p + 6))) := (fd.mo (fun b j _ z => Or.inr z)).tr (Fq.pi (Or.inl ⟨rfl, by omega⟩))
  have Q1 : xQ P x0 c lo N hd fa (gpi σd x0 6 (nI (p + 6))) := Qd.at6
  have h61 : gi (gpi σd x0 6 (nI (p + 6))) x0 6 = nI (p + 6) := gi_gpi_eq
  have e13 : gi (gpi σd x0 6 (nI (p + 6))) A 13 = nI (npS (n4 P p) (U2 P.1 p)) := (gi_gpi_ne (Or.inl hAx)).trans hd3
  have c1 : gc (gpi σd x0 6 (nI (p + 6))) = gc σ := gc_gpi.trans cd
  have s1 : gs (gpi σd x0 6 (nI (p + 6))) = gs σ := gs_gpi.trans sd
  have x1 : gx (gpi σd x0 6 (nI (p + 6))) = gx σ := gx_gpi.trans xd
  generalize gpi σd x0 6 (nI (p + 6)) = σ1 at *
  have nW : ∀ b j, N b → gk σ b = 6 ∨ gk σ b = 101 → ¬ (wx x0 b j ∨ b = A) := fun b j m _ z => by
    rcases z with z | z
    · exact hNx0 (z.1 ▸ m)
    · exact hA (z ▸ m)
  have ht1 := ht.fr G hQ.1 nW
  have hs1 := hs.fr G hQ.1 nW
  have nA' : ∀ j, j ≠ 13 → ¬ (wx x0 A j ∨ (A = A ∧ j = 13)) := fun j hj z => z.elim (fun z => hAx z.1) (fun z => hj z.2)
  have st : ∀ {j : Nat} {w : Int32}, j ≠ 13 → gi σ A j = w → gi σ1 A j = w := fun hj e => (G'.gi lA (nA' _ hj)).trans e
  have e5 := st (by decide) i5
  have e3 := st (by decide) i3
  have e4 := st (by decide) i4
  have k1 : gk σ1 A = 4 := G.gk hQ.1 ka (by decide)
  have o1 : gr σ1 A 0 = some c := (G'.gr lA (nA' 0 (by decide))).trans ow
  have g1 : gr σ1 A 1 = some s := (G'.gr lA (nA' 1 (by decide))).trans r1
  have g2 : gr σ1 A 2 = some t := (G'.gr lA (nA' 2 (by decide))).trans r2
  have g12 : gr σ1 A 12 = some ra := (G'.gr lA (nA' 12 (by decide))).trans r12
  have lra : ra < gx σ := hQ.1.lt (by rw [kra]; decide)
  have hI : xI1 P.1 A (npS (n4 P p) (U2 P.1 p)) (fun _ => 0) σ1 := ⟨⟨k1, e13⟩, st (by decide) (i0 6 (by omega)), st (by decide) (i0 7 (by omega)), by
    show xCo P.1 A 0 σ1
    unfold xCo
    rw [if_pos rfl]
    exact ⟨st (by decide) (i0 10 (by omega)), st (by decide) (i0 8 (by omega)), st (by decide) (i0 9 (by omega)), ra, g12, G.gk hQ.1 kra (by decide), (G.gn lra).trans nra⟩⟩
  have hAtt := x_att_ok (C := C) (S := S2) g hfu (by omega) (xStp1 (f := none) (fin := fin) (fl := U2 P.1 p) (d := n4 P p) g hfu (by have := npS_lt (t := n4 P p) (f := U2 P.1 p); omega) hA hNx0 hAx hAc) Q1 (fun b z => by have := hNx b z; omega) hI h61 hq (by omega) (by omega)
  rw [show p + 6 + 2 = p + 8 from rfl] at hAtt
  revert hAtt
  cases attsS P 1 fin (U2 P.1 p) (n4 P p) (npS (n4 P p) (U2 P.1 p)) (U2 P.1 (p + 6)) (p + 8) 0 (fun _ => 0) with
  | error er =>
    rintro ⟨σ2, b1, b2, b3, b4, b5⟩
    rw [show x_attributes fu σ1 x0 c (1 : Int32) none (some A) = _ from b1, Option.bind_some, if_pos rfl]
    exact ⟨σ2, rfl, b2, G.trw b3 (fun b j _ z => z.elim (hWx b j) (fun z => z ▸ hWA j)) (fun b j _ z => z.elim (hWx b j) (fun z => z.1 ▸ hWA j)), b4, by omega⟩
  | ok a =>
    rintro ⟨σ2, b1, ⟨b2, b3, b4, b5, b6⟩, b7⟩
    rw [show x_attributes fu σ1 x0 c (1 : Int32) none (some A) = _ from b1, Option.bind_some, if_neg i10, eb_ok]
    have G2 : Fq (fun b j => wx x0 b j ∨ b = A) σ σ2 := G.trw b7 (fun _ _ _ z => z) (fun b j _ z => z.elim Or.inl (fun z => Or.inr z.1))
    have lA1 : A < gx σ1 := by omega
    have nA2 : ∀ j, ¬ (6 ≤ j ∧ j ≤ 12) → ¬ w1M x0 A A j := fun j hj z => z.elim (fun z => hAx z.1) (fun z => hj z.2)
    obtain ⟨⟨m1, m2⟩, m3, m4, m5⟩ := b2
    have f5 : gi σ2 A 5 = nI (U2 P.1 p) := (b7.gi lA1 (nA2 5 (by omega))).trans e5
    have nW1 : ∀ b j, N b → gk σ1 b = 6 ∨ gk σ1 b = 101 → ¬ w1M x0 A b j := fun b j m _ z => by
      rcases z with z | z
      · exact hNx0 (z.1 ▸ m)
      · exact hA (z.1 ▸ m)
    have hMt : xMt P N c A (p, a) σ2 := ⟨⟨m1, (b7.gr lA1 (nA2 0 (by omega))).trans o1⟩, ⟨f5, (b7.gi lA1 (nA2 3 (by omega))).trans e3, (b7.gi lA1 (nA2 4 (by omega))).trans e4, m3, m4, m2⟩, m5, ⟨s, (b7.gr lA1 (nA2 1 (by omega))).trans g1, hs1.fr b7 Q1.1 nW1⟩, t, (b7.gr lA1 (nA2 2 (by omega))).trans g2, ht1.fr b7 Q1.1 nW1⟩
    have f14 : gi σ2 A 14 = 0 := (b7.gi lA1 (nA2 14 (by omega))).trans (st (by decide) (i0 14 (by omega)))
    have Q2 := hQ.fr G2 (fun b j _ z => wkA b j z) b3
    have f10 : (a 3 = 0 → gi σ2 A 10 = 0) ∧ (¬ a 3 = 0 → gi σ2 A 10 = 1) := by
      unfold xCo at m5
      constructor
      · intro z
        rw [if_pos z] at m5
        exact m5.1
      · intro z
        rw [if_neg z] at m5
        exact m5.1.1
    have fin2 : xC x0 W C S (D a) Q σ (k15 σ2 x0 c (nI nn) (nI (k + 1))) := xC.trw G2 (cont a σ2 G2 b3 b4 hMt f14 b5 b6) (fun b j _ z => z.elim (hWx b j) (fun z => z ▸ hWA j)) (fun b j _ z => z.elim (hWx b j) (fun z => z ▸ hWf j))
    have er27 : xC x0 W C S (.error (27, p) : FE (Nat → MR)) Q σ (some (0, xwr σ2 x0 27 p)) := ⟨_, rfl, xwr_ok, (G2.mo (fun b j _ z => z.elim (hWx b j) (fun z => z ▸ hWA j))).tr (Fq.wr hWx), by rw [gc_xwr]; omega, by rw [gs_xwr]; omega⟩
    have key : ∀ (B : Prop), (B ↔ bare P p) → xC x0 W C S (ci (¬ a 3 = 0 ↔ bare P p) (.error (27, p)) (D a)) Q σ (x_checkMethods_433 fu k15 σ2 x0 c (nI nn) (nI k) A (nI p) (bi B)) := by
      intro B hB
      unfold x_checkMethods_433
      rw [ckT_ok m1, ckT_ok Q2.2.1.2.1.1, show (27 : Int32) = nI 27 from rfl, x_wrong_ok Q2.2.1.2.1.1 Q2.2.2.2, Option.bind_some, ckN_0, nx_eq, nI_1]
      by_cases z : a 3 = 0 <;> by_cases w : B
      · rw [f10.1 z, bi_t w, if_neg (by decide), ci_f (fun v => v.mpr (hB.mp w) z)]
        exact fin2
      · rw [f10.1 z, bi_f w, if_pos rfl, ci_t ⟨fun v => absurd z v, fun v => absurd (hB.mpr v) w⟩]
        exact er27
      · rw [f10.2 z, bi_t w, if_pos rfl, ci_t ⟨fun _ => hB.mp w, fun _ => z⟩]
        exact er27
      · rw [f10.2 z, bi_f w, if_neg (by decide), ci_f (fun v => w (hB.mpr (v.mp z)))]
        exact fin2
    have k0 := key False
    have k1' := key True
    rw [bi_f id] at k0
    rw [bi_t trivial] at k1'
    unfold x_checkMethods_432
    unfold bare at k0 k1' ⊢
    by_cases q1 : n2 P p = lT 11
    · rw [ib_t q1]
      exact k0 ⟨fun z => z.elim, fun z => absurd q1 z.1⟩
    rw [ib_f q1]
    show xC x0 W C S _ Q σ (ckT σ2 4 A (if ((gi σ2 A 5) &&& (1280 : Int32)) = 0 then x_checkMethods_433 fu k15 σ2 x0 c (nI nn) (nI k) A (nI p) (0 : Int32) else x_checkMethods_433 fu k15 σ2 x0 c (nI nn) (nI k) A (nI p) (1 : Int32)))
    rw [ckT_ok m1, f5]
    by_cases q2 : (nI (U2 P.1 p) &&& (1280 : Int32)) = 0
    · rw [if_pos q2]
      exact k0 ⟨fun z => z.elim, fun z => absurd q2 z.2⟩
    · rw [if_neg q2]
      exact k1' ⟨fun _ => ⟨q1, q2⟩, fun _ => trivial⟩
end Mth2
