/-! the component's readPool, whole -/
section XRp6
set_option maxRecDepth 100000
/-- a new array, noted in a field -/
def nA (σ : GS) (K sz c j : Nat) : GS := gpr (gnew σ K sz sz) c j (some (gx σ))
theorem Z8.nA {x0 K n a k : Nat} {σ : GS} (h : x0 ≠ gx σ) (z : Z8 x0 σ) : Z8 x0 (nA σ K n a k) := (Z8.new h z).pr
theorem gk_nA {σ : GS} {K sz c j a : Nat} : gk (nA σ K sz c j) a = if a = gx σ then K else gk σ a := gk_gpr.trans gk_gnew
theorem gn_nA {σ : GS} {K sz c j a : Nat} : gn (nA σ K sz c j) a = if a = gx σ then sz else gn σ a := gn_gpr.trans gn_gnew
theorem gi_nA {σ : GS} {K sz c j a i : Nat} : gi (nA σ K sz c j) a i = if a = gx σ then 0 else gi σ a i := gi_gpr.trans gi_gnew
theorem gl_nA {σ : GS} {K sz c j a i : Nat} : gl (nA σ K sz c j) a i = if a = gx σ then 0 else gl σ a i := gl_gpr.trans gl_gnew
theorem gr_nA {σ : GS} {K sz c j a i : Nat} : gr (nA σ K sz c j) a i = if a = c ∧ i = j then some (gx σ) else if a = gx σ then none else gr σ a i := by
  unfold nA
  rw [gr_gpr, gr_gnew]
theorem gx_nA {σ : GS} {K sz c j : Nat} : gx (nA σ K sz c j) = gx σ + 1 := gx_gpr.trans gx_gnew
theorem gc_nA {σ : GS} {K sz c j : Nat} : gc (nA σ K sz c j) = gc σ - 1 := gc_gpr.trans gc_gnew
theorem gs_nA {σ : GS} {K sz c j : Nat} : gs (nA σ K sz c j) = gs σ - sz := gs_gpr.trans gs_gnew
theorem gb_nA {σ : GS} {K sz c j : Nat} : gb (nA σ K sz c j) = gb σ := gb_gpr.trans gb_gnew
theorem fq_nA {W : Nat → Nat → Prop} {σ : GS} {K sz c j : Nat} (h : W c j) : Fq W σ (nA σ K sz c j) := Fq.new.tr (Fq.pr h)
theorem nA_step {β : Type} {s : GS} {K sz c j kc : Nat} {k : GS → Option β} (h1 : sz ≤ 16777216) (h2 : 1 ≤ gc s ∧ sz ≤ gs s) (h3 : gk s c = kc) (h4 : c ≠ gx s) : ckL (nI sz) (ckC s (nI sz).toNatClampNeg (nx (gx s) fun a => nx (gnew s K (nI sz).toNatClampNeg (nI sz).toNatClampNeg) fun s' => ckT s' kc c (nx (gpr s' c j (some a)) fun s2 => k s2))) = k (nA s K sz c j) := by
  rw [ckL_ok h1, nI_clamp (by omega), ckC_ok h2, nx_eq, nx_eq, ckT_ok (by rw [gk_gnew, if_neg h4]; exact h3), nx_eq]
  rfl
theorem d3 : ∀ n, n < 1301 → nI n / 3 + 2 = nI (n / 3 + 2) := by decide +kernel
/-- what structure writes -/
def w5 (x0 c b v a j : Nat) : Prop := (a = b ∨ a = v) ∨ (a = x0 ∧ (j = 3 ∨ j = 4 ∨ j = 6 ∨ j = 7 ∨ j = 8 ∨ j = 9 ∨ j = 10)) ∨ (a = c ∧ (j = 1 ∨ j = 2 ∨ (6 ≤ j ∧ j ≤ 11)))
theorem ckD_ok {α : Type} {y : Int32} {k : Option α} (h : ¬ y = 0) : ckD y k = k := if_neg h
theorem x_readPool_ok {F : Nat → Int32} {n x0 c b v maj cnt C S fu : Nat} {u : List Nat} {σ : GS} (hn : n ≤ 1300) (h10 : 10 ≤ n) (hmaj : maj < 65536) (h45 : 45 ≤ maj) (hcnt : cnt < 65536) (h1 : 1 ≤ cnt) (hfu : 65536 < fu) (hS : 40000 ≤ S) (hw : WF σ) (hA : xA F n x0 10 σ) (hc : gk σ c = 2) (hc1 : gi σ c 1 = nI maj) (hc6 : gi σ c 6 = nI cnt) (hb : gr σ x0 11 = some b) (hB : bS u b v σ) (hfv : ∀ q, gr σ x0 2 = some q → q ≠ v) (hC : C + 2 * n + 9 ≤ gc σ) (hS2 : S + 16 + 5 * n ≤ gs σ + 2 * gn σ v) :
    ∃ σ6 sz, Fq (fun a j => (a = c ∧ 7 ≤ j ∧ j ≤ 11) ∨ (a = x0 ∧ j = 7)) σ σ6 ∧ gx σ6 = gx σ + 6 ∧ (3 * cnt + 7 ≤ n → sz = cnt) ∧ xRP F n x0 c b v (gx σ) sz maj cnt C S (rpS F n maj cnt cnt 1 10 (fun _ => 0) (fun _ => [])) σ6 (x_readPool fu σ x0 c) := by
  obtain ⟨⟨hx, f, a2, a3, a4, a5, a6⟩, h6, h8⟩ := hA
  have lx : x0 < gx σ := hw.lt (by rw [hx]; decide)
  have lc : c < gx σ := hw.lt (by rw [hc]; decide)
  have lf : f < gx σ := hw.lt (by rw [a3]; decide)
  have lv : v < gx σ := hw.lt (by rw [hB.2.2.1]; decide)
  have lb : b < gx σ := hw.lt (by rw [hB.1]; decide)
  have ncx : c ≠ x0 := fun z => by rw [z, hx] at hc; exact absurd hc (by decide)
  have hv : gn σ v ≤ 5280 := by
    obtain ⟨-, -, -, -, -, -, -, z | ⟨-, ⟨q, z1, z2, z3⟩, -⟩⟩ := hB
    · have := z.2.2.1
      omega
    · omega
  generalize hsz : (if n / 3 + 2 < cnt then n / 3 + 2 else cnt) = sz
  have hsz1 : sz ≤ n / 3 + 2 ∧ sz ≤ cnt ∧ ∀ k, k < cnt → 3 * k + 7 ≤ n → k < sz := by
    rw [← hsz]
    split
    · exact ⟨by omega, by omega, fun k h1 h2 => by omega⟩
    · exact ⟨by omega, by omega, fun k h1 h2 => by omega⟩
  obtain ⟨z1, z2, z3⟩ := hsz1
  have gs0 : 6 * sz ≤ gs σ := by omega
  unfold x_readPool x_readPool_0
  rw [ckT_ok hc, nx_eq, ckT_ok hx, a2, ckK_ok a3, ckD_ok (by decide), nx_eq, a4, hc6, d3 n (by omega)]
  have ey : (if nI (n / 3 + 2) < nI cnt then nI (n / 3 + 2) else nI cnt) = nI sz := by
    rw [← hsz]
    split
    · rename_i q
      rw [if_pos ((nI_ltI (by omega) (by omega)).mp q)]
    · rename_i q
      rw [if_neg (fun w => q ((nI_ltI (by omega) (by omega)).mpr w))]
  rw [ey]
  rw [nA_step (by omega) ⟨by omega, by omega⟩ hc (by omega)]
  generalize hs1 : nA σ 101 sz c 7 = s1
  have x1 : gx s1 = gx σ + 1 := by rw [← hs1, gx_nA]
  have c1 : gc s1 = gc σ - 1 := by rw [← hs1, gc_nA]
  have e1 : gs s1 = gs σ - sz := by rw [← hs1, gs_nA]
  have k1 : ∀ a, gk s1 a = if a = gx σ then 101 else gk σ a := fun a => by rw [← hs1, gk_nA]
  rw [nA_step (by omega) ⟨by omega, by omega⟩ (by rw [k1, if_neg (by omega)]; exact hc) (by omega)]
  generalize hs2 : nA s1 100 sz c 8 = s2
  have x2 : gx s2 = gx σ + 2 := by rw [← hs2, gx_nA]; omega
  have c2 : gc s2 = gc σ - 2 := by rw [← hs2, gc_nA]; omega
  have e2 : gs s2 = gs σ - 2 * sz := by rw [← hs2, gs_nA]; omega
  have k2 : ∀ a, gk s2 a = if a = gx s1 then 100 else gk s1 a := fun a => by rw [← hs2, gk_nA]
  rw [nA_step (by omega) ⟨by omega, by omega⟩ (by rw [k2, k1, if_neg (by omega), if_neg (by omega)]; exact hc) (by omega)]
  generalize hs3 : nA s2 100 sz c 9 = s3
  have x3 : gx s3 = gx σ + 3 := by rw [← hs3, gx_nA]; omega
  have c3 : gc s3 = gc σ - 3 := by rw [← hs3, gc_nA]; omega
  have e3 : gs s3 = gs σ - 3 * sz := by rw [← hs3, gs_nA]; omega
  have k3 : ∀ a, gk s3 a = if a = gx s2 then 100 else gk s2 a := fun a => by rw [← hs3, gk_nA]
  rw [nA_step (by omega) ⟨by omega, by omega⟩ (by rw [k3, k2, k1, if_neg (by omega), if_neg (by omega), if_neg (by omega)]; exact hc) (by omega)]
  generalize hs4 : nA s3 104 sz c 10 = s4
  have x4 : gx s4 = gx σ + 4 := by rw [← hs4, gx_nA]; omega
  have c4 : gc s4 = gc σ - 4 := by rw [← hs4, gc_nA]; omega
  have e4 : gs s4 = gs σ - 4 * sz := by rw [← hs4, gs_nA]; omega
  have k4 : ∀ a, gk s4 a = if a = gx s3 then 104 else gk s3 a := fun a => by rw [← hs4, gk_nA]
  rw [nA_step (by omega) ⟨by omega, by omega⟩ (by rw [k4, k3, k2, k1, if_neg (by omega), if_neg (by omega), if_neg (by omega), if_neg (by omega)]; exact hc) (by omega)]
  generalize hs5 : nA s4 105 sz c 11 = s5
  have x5 : gx s5 = gx σ + 5 := by rw [← hs5, gx_nA]; omega
  have c5 : gc s5 = gc σ - 5 := by rw [← hs5, gc_nA]; omega
  have e5 : gs s5 = gs σ - 5 * sz := by rw [← hs5, gs_nA]; omega
  have k5 : ∀ a, gk s5 a = if a = gx s4 then 105 else gk s4 a := fun a => by rw [← hs5, gk_nA]
  rw [nA_step (by omega) ⟨by omega, by omega⟩ (by rw [k5, k4, k3, k2, k1, if_neg (by omega), if_neg (by omega), if_neg (by omega), if_neg (by omega), if_neg (by omega)]; exact hx) (by omega)]
  generalize hs6 : nA s5 100 sz x0 7 = s6
  have x6 : gx s6 = gx σ + 6 := by rw [← hs6, gx_nA]; omega
  have c6 : gc s6 = gc σ - 6 := by rw [← hs6, gc_nA]; omega
  have e6 : gs s6 = gs σ - 6 * sz := by rw [← hs6, gs_nA]; omega
  have k6 : ∀ a, gk s6 a = if a = gx s5 then 100 else gk s5 a := fun a => by rw [← hs6, gk_nA]
  -- the changes
  have q1 : Fq (fun a j => (a = c ∧ 7 ≤ j ∧ j ≤ 11) ∨ (a = x0 ∧ j = 7)) σ s1 := by rw [← hs1]; exact fq_nA (Or.inl ⟨rfl, by omega, by omega⟩)
  have q2 : Fq (fun a j => (a = c ∧ 7 ≤ j ∧ j ≤ 11) ∨ (a = x0 ∧ j = 7)) s1 s2 := by rw [← hs2]; exact fq_nA (Or.inl ⟨rfl, by omega, by omega⟩)
  have q3 : Fq (fun a j => (a = c ∧ 7 ≤ j ∧ j ≤ 11) ∨ (a = x0 ∧ j = 7)) s2 s3 := by rw [← hs3]; exact fq_nA (Or.inl ⟨rfl, by omega, by omega⟩)
  have q4 : Fq (fun a j => (a = c ∧ 7 ≤ j ∧ j ≤ 11) ∨ (a = x0 ∧ j = 7)) s3 s4 := by rw [← hs4]; exact fq_nA (Or.inl ⟨rfl, by omega, by omega⟩)
  have q5 : Fq (fun a j => (a = c ∧ 7 ≤ j ∧ j ≤ 11) ∨ (a = x0 ∧ j = 7)) s4 s5 := by rw [← hs5]; exact fq_nA (Or.inl ⟨rfl, by omega, by omega⟩)
  have q6 : Fq (fun a j => (a = c ∧ 7 ≤ j ∧ j ≤ 11) ∨ (a = x0 ∧ j = 7)) s5 s6 := by rw [← hs6]; exact fq_nA (Or.inr ⟨rfl, rfl⟩)
  have q26 := q2.tr (q3.tr (q4.tr (q5.tr q6)))
  have Q : Fq (fun a j => (a = c ∧ 7 ≤ j ∧ j ≤ 11) ∨ (a = x0 ∧ j = 7)) σ s6 := q1.tr q26
  have no : ∀ a j, a ≠ c → a ≠ x0 → ¬ ((a = c ∧ 7 ≤ j ∧ j ≤ 11) ∨ (a = x0 ∧ j = 7)) := fun a j g1 g2 z => z.elim (fun z => g1 z.1) (fun z => g2 z.1)
  have kk : ∀ {a K : Nat}, gk σ a = K → K ≠ 2 → a ≠ c := fun {a K} q r z => by rw [z, hc] at q; exact r q.symm
  have kx : ∀ {a K : Nat}, gk σ a = K → K ≠ 1 → a ≠ x0 := fun {a K} q r z => by rw [z, hx] at q; exact r q.symm
  obtain ⟨B6, nv6⟩ := hB.fr Q hw (fun j => no b j (kk hB.1 (by decide)) (kx hB.1 (by decide))) (fun j => no v j (kk hB.2.2.1 (by decide)) (kx hB.2.2.1 (by decide)))
  -- the new arrays
  have K0 : gk s6 (gx σ) = 101 := by rw [k6, k5, k4, k3, k2, k1, if_neg (by omega), if_neg (by omega), if_neg (by omega), if_neg (by omega), if_neg (by omega), if_pos rfl]
  have K1 : gk s6 (gx σ + 1) = 100 := by rw [k6, k5, k4, k3, k2, if_neg (by omega), if_neg (by omega), if_neg (by omega), if_neg (by omega), if_pos (by omega)]
  have K2 : gk s6 (gx σ + 2) = 100 := by rw [k6, k5, k4, k3, if_neg (by omega), if_neg (by omega), if_neg (by omega), if_pos (by omega)]
  have K3 : gk s6 (gx σ + 3) = 104 := by rw [k6, k5, k4, if_neg (by omega), if_neg (by omega), if_pos (by omega)]
  have K4 : gk s6 (gx σ + 4) = 105 := by rw [k6, k5, if_neg (by omega), if_pos (by omega)]
  have K5 : gk s6 (gx σ + 5) = 100 := by rw [k6, if_pos (by omega)]
  have N0 : gn s6 (gx σ) = sz := by rw [q26.gn (by omega), ← hs1, gn_nA, if_pos rfl]
  have N1 : gn s6 (gx σ + 1) = sz := by rw [(q3.tr (q4.tr (q5.tr q6))).gn (by omega), ← hs2, gn_nA, if_pos (by omega)]
  have N2 : gn s6 (gx σ + 2) = sz := by rw [(q4.tr (q5.tr q6)).gn (by omega), ← hs3, gn_nA, if_pos (by omega)]
  have N3 : gn s6 (gx σ + 3) = sz := by rw [(q5.tr q6).gn (by omega), ← hs4, gn_nA, if_pos (by omega)]
  have N4 : gn s6 (gx σ + 4) = sz := by rw [q6.gn (by omega), ← hs5, gn_nA, if_pos (by omega)]
  have N5 : gn s6 (gx σ + 5) = sz := by rw [← hs6, gn_nA, if_pos (by omega)]
  have I0 : ∀ i, gi s6 (gx σ) i = 0 := fun i => by rw [q26.gi (by omega) (no _ _ (by omega) (by omega)), ← hs1, gi_nA, if_pos rfl]
  have I1 : ∀ i, gi s6 (gx σ + 1) i = 0 := fun i => by rw [(q3.tr (q4.tr (q5.tr q6))).gi (by omega) (no _ _ (by omega) (by omega)), ← hs2, gi_nA, if_pos (by omega)]
  have I2 : ∀ i, gi s6 (gx σ + 2) i = 0 := fun i => by rw [(q4.tr (q5.tr q6)).gi (by omega) (no _ _ (by omega) (by omega)), ← hs3, gi_nA, if_pos (by omega)]
  have I3 : ∀ i, gl s6 (gx σ + 3) i = 0 := fun i => by rw [(q5.tr q6).gl (by omega) (no _ _ (by omega) (by omega)), ← hs4, gl_nA, if_pos (by omega)]
  have r6 : ∀ a i, gr s6 a i = if a = x0 ∧ i = 7 then some (gx s5) else if a = gx s5 then none else gr s5 a i := fun a i => by rw [← hs6, gr_nA]
  have r5 : ∀ a i, gr s5 a i = if a = c ∧ i = 11 then some (gx s4) else if a = gx s4 then none else gr s4 a i := fun a i => by rw [← hs5, gr_nA]
  have r4 : ∀ a i, gr s4 a i = if a = c ∧ i = 10 then some (gx s3) else if a = gx s3 then none else gr s3 a i := fun a i => by rw [← hs4, gr_nA]
  have r3 : ∀ a i, gr s3 a i = if a = c ∧ i = 9 then some (gx s2) else if a = gx s2 then none else gr s2 a i := fun a i => by rw [← hs3, gr_nA]
  have r2 : ∀ a i, gr s2 a i = if a = c ∧ i = 8 then some (gx s1) else if a = gx s1 then none else gr s1 a i := fun a i => by rw [← hs2, gr_nA]
  have r1 : ∀ a i, gr s1 a i = if a = c ∧ i = 7 then some (gx σ) else if a = gx σ then none else gr σ a i := fun a i => by rw [← hs1, gr_nA]
  have R7 : gr s6 c 7 = some (gx σ) := by rw [r6, r5, r4, r3, r2, r1, if_neg (by omega), if_neg (by omega), if_neg (by omega), if_neg (by omega), if_neg (by omega), if_neg (by omega), if_neg (by omega), if_neg (by omega), if_neg (by omega), if_neg (by omega), if_pos ⟨rfl, rfl⟩]
  have R8 : gr s6 c 8 = some (gx σ + 1) := by rw [r6, r5, r4, r3, r2, if_neg (by omega), if_neg (by omega), if_neg (by omega), if_neg (by omega), if_neg (by omega), if_neg (by omega), if_neg (by omega), if_neg (by omega), if_pos ⟨rfl, rfl⟩, x1]
  have R9 : gr s6 c 9 = some (gx σ + 2) := by rw [r6, r5, r4, r3, if_neg (by omega), if_neg (by omega), if_neg (by omega), if_neg (by omega), if_neg (by omega), if_neg (by omega), if_pos ⟨rfl, rfl⟩, x2]
  have R10 : gr s6 c 10 = some (gx σ + 3) := by rw [r6, r5, r4, if_neg (by omega), if_neg (by omega), if_neg (by omega), if_neg (by omega), if_pos ⟨rfl, rfl⟩, x3]
  have R11 : gr s6 c 11 = some (gx σ + 4) := by rw [r6, r5, if_neg (by omega), if_neg (by omega), if_pos ⟨rfl, rfl⟩, x4]
  have R0 : gr s6 x0 7 = some (gx σ + 5) := by rw [r6, if_pos ⟨rfl, rfl⟩, x5]
  have nxx : ∀ j, j ≠ 7 → ¬ ((x0 = c ∧ 7 ≤ j ∧ j ≤ 11) ∨ (x0 = x0 ∧ j = 7)) := fun j g z => z.elim (fun z => ncx z.1.symm) (fun z => g z.2)
  have F6 : xF F n x0 s6 := ⟨Q.gk hw hx (by decide), f, (Q.gr lx (nxx 2 (by decide))).trans a2, Q.gk hw a3 (by decide), (Q.gn lf).trans a4, a5, fun i hi => (Q.gi lf (no f i (kk a3 (by decide)) (kx a3 (by decide)))).trans (a6 i hi)⟩
  clear hs1 hs2 hs3 hs4 hs5 hs6 r1 r2 r3 r4 r5 r6 k1 k2 k3 k4 k5 k6 q1 q2 q3 q4 q5 q6 q26 e1 e2 e3 e4 e5 c1 c2 c3 c4 c5 ey
  refine ⟨s6, sz, Q, x6, fun z => ?_, ?_⟩
  · have := z3 (cnt - 1) (by omega) (by omega)
    omega
  have hgb := hw.2
  refine x_rp_loop hn hmaj h45 hcnt hfu hS z3 cnt fu 1 10 (fun _ => 0) (fun _ => []) v u s6 (by omega) (by omega) h1 h10 (by omega) (by omega) (fun _ _ => rfl) ⟨⟨Q.wf hw, ⟨F6, (Q.gi lx (nxx 6 (by decide))).trans h6, Z8.fq Q lx (fun j w => nxx j (by omega)) h8⟩, ⟨⟨Q.gk hw hc (by decide), (Q.gi lc (fun z => by have := z.elim (fun z => z.2.1) (fun z => absurd z.1 ncx); omega)).trans hc1⟩, ⟨R7, R8, R9, R10, R11⟩, ⟨R0, (Q.gr lx (nxx 11 (by decide))).trans hb⟩, ⟨K0, K1, K2, K3, K4, K5⟩, ⟨N0, N1, N2, N3, N4, N5⟩, by rw [Q.2.1]; exact hgb, by omega⟩, B6⟩, fun i hi => ⟨I0 i, I1 i, I2 i, I3 i, fun z => absurd rfl z, fun z => absurd rfl z⟩, fun i hi => ⟨I0 i, I1 i, I2 i, I3 i⟩, ⟨by omega, by omega, fun q hq => ?_⟩, by omega, by rw [nv6]; omega⟩
  rw [Q.gr lx (nxx 2 (by decide))] at hq
  have := hfv q hq
  rw [a2] at hq
  cases hq
  exact ⟨this, by omega⟩
end XRp6
