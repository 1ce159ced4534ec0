/-! the component's pool -/
section XPool
set_option maxRecDepth 100000
theorem xRT.fq {x0 b v tx i e C S : Nat} {E : FE (List Nat)} {σ σ1 : GS} {o : Option (Int32 × GS)} (h : Fq (wrt x0 b v tx i) σ σ1) (k : xRT x0 b v tx i e C S E σ1 o) : xRT x0 b v tx i e C S E σ o := by
  have h1 := h.1
  cases E with
  | error er =>
    obtain ⟨σ', v', t', k1, k2, k3, k4, k5, k6⟩ := k
    exact ⟨σ', v', t', k1, k2, k3, by omega, h.tr k5, k6⟩
  | ok t =>
    obtain ⟨σ', v', t', s, k1, k2, ⟨q1, q2, q3, q4⟩, k3, k4, k5, k6⟩ := k
    exact ⟨σ', v', t', s, k1, k2, ⟨q1, q2, by omega, fun w hw => ⟨(q4 w hw).1, by have := (q4 w hw).2; omega⟩⟩, k3, by omega, h.tr k5, k6⟩
def rdS (F : Nat → Int32) (n p : Nat) : FE (List Nat) := eb (itS n p 2) fun _ => eb (itS n (p + 2) (U2 F p)) fun _ => decS F (p + 2 + U2 F p) (U2 F p) (p + 2)
theorem x_readText_okk {F : Nat → Int32} {n x0 c b v tx i sz fu C S p : Nat} {t : List Nat} {σ : GS} (hn : n ≤ 1300) (hfu : 65536 < fu) (hi : i < sz) (hsz : sz < 2 ^ 31) (hS : 40000 ≤ S) (hw : WF σ) (hA : xA F n x0 p σ) (hp : p ≤ n) (hfv : ∀ q, gr σ x0 2 = some q → q ≠ v) (h11b : gr σ x0 11 = some b) (hc : gk σ c = 2) (h11 : gr σ c 11 = some tx) (htx : gk σ tx = 105) (hsz2 : gn σ tx = sz) (hB : bS t b v σ) (hC : p + 2 + U2 F p ≤ n → C + 2 * U2 F p + 3 ≤ gc σ) (hS2 : p + 2 + U2 F p ≤ n → S + 4 + 3 * U2 F p ≤ gs σ + 2 * gn σ v) (hCn : C ≤ gc σ) (hSn : S ≤ gs σ + 2 * gn σ v) :
    xRT x0 b v tx i (p + 2 + U2 F p) C S (rdS F n p) σ (x_readText fu σ x0 c (nI i)) := by
  have hx1 := hA.1.1
  have lx : x0 < gx σ := hw.lt (by rw [hx1]; decide)
  have nxb : b ≠ x0 := fun z => by have := hx1; rw [← z, hB.1] at this; exact absurd this (by decide)
  have nxv : v ≠ x0 := fun z => by have := hx1; rw [← z, hB.2.2.1] at this; exact absurd this (by decide)
  have hl := U2_lt F p
  have er : ∀ (σ1 : GS) (r q : Nat), Fq (wx x0) σ σ1 → Z8 x0 σ1 → gc σ1 = gc σ → gs σ1 = gs σ → xRT x0 b v tx i (p + 2 + U2 F p) C S (.error (r, q)) σ (some (0, xwr σ1 x0 r q)) := by
    intro σ1 r q f1 g8 gc1 gs1
    have f2 : Fq (wx x0) σ (xwr σ1 x0 r q) := f1.tr (Fq.wr (fun _ _ z => z))
    obtain ⟨hB2, hn2⟩ := hB.fr f2 hw (fun j z => nxb z.1) (fun j z => nxv z.1)
    refine ⟨_, v, t, rfl, xwr_ok, hB2, Or.inl rfl, f2.mo (fun a j _ z => Or.inr (Or.inl z)), ?_, ?_⟩
    · show C ≤ gc σ1
      omega
    · rw [hn2]
      show S ≤ gs σ1 + 2 * gn σ v
      omega
  unfold x_readText x_readText_0 rdS
  rw [ckT_ok hx1, x_next2_ok hA (by omega) hp]
  by_cases z1 : n < p + 2
  · rw [if_pos z1, Option.bind_some, show itS n p 2 = .error (1, p) from if_pos z1]
    show xRT _ _ _ _ _ _ _ _ (.error (1, p)) _ (ckT (xwr σ x0 1 p) 1 x0 _)
    rw [ckT_ok (show gk (xwr σ x0 1 p) x0 = 1 from hx1), show gi ((0 : Int32), xwr σ x0 1 p).2 x0 8 = 1 from xwr8, if_neg i10]
    exact er σ 1 p Fq.rf hA.2.2 rfl rfl
  rw [if_neg z1, Option.bind_some, show itS n p 2 = .ok () from if_neg z1, eb_ok]
  have hA1 : xA F n x0 (p + 2) (gpi σ x0 6 (nI (p + 2))) := hA.to
  have f1 : Fq (wx x0) σ (gpi σ x0 6 (nI (p + 2))) := Fq.pi ⟨rfl, by omega⟩
  show xRT _ _ _ _ _ _ _ _ _ _ (ckT (gpi σ x0 6 (nI (p + 2))) 1 x0 _)
  rw [ckT_ok (show gk (gpi σ x0 6 (nI (p + 2))) x0 = 1 from hx1), if_pos hA1.2.2.1, nI_l (by omega)]
  show xRT _ _ _ _ _ _ _ _ _ _ ((x_has (gpi σ x0 6 (nI (p + 2))) x0 (lN (U2 F p))).bind _)
  rw [x_has_ok hA1 (by omega) (by omega) (by omega)]
  by_cases z2 : n < p + 2 + U2 F p
  · rw [if_pos z2, Option.bind_some, show itS n (p + 2) (U2 F p) = .error (1, p + 2) from if_pos z2, if_pos rfl]
    exact er _ 1 (p + 2) f1 hA1.2.2 rfl rfl
  have hC := hC (by omega)
  have hS2 := hS2 (by omega)
  rw [if_neg z2, Option.bind_some, show itS n (p + 2) (U2 F p) = .ok () from if_neg z2, eb_ok, if_neg i10]
  show xRT _ _ _ _ _ _ _ _ _ _ (ckT (gpi σ x0 6 (nI (p + 2))) 1 x0 (nx (gr (gpi σ x0 6 (nI (p + 2))) x0 11) fun y10 => ckK (gpi σ x0 6 (nI (p + 2))) 5 y10 fun a11 => (x_J1_setLength (gpi σ x0 6 (nI (p + 2))) a11 (0 : Int32)).bind _))
  obtain ⟨hB1, hn1⟩ := hB.fr f1 hw (fun j z => nxb z.1) (fun j z => nxv z.1)
  obtain ⟨σ2, y1, y2, y3, y4, y5, y6⟩ := x_setLength_ok hB1
  have hw1 : WF (gpi σ x0 6 (nI (p + 2))) := f1.wf hw
  rw [ckT_ok hA1.1.1, nx_eq, show gr (gpi σ x0 6 (nI (p + 2))) x0 11 = some b from h11b, ckK_ok hB1.1, y1, Option.bind_some]
  have q3 := y3.q
  have kx2 : gk σ2 x0 = 1 := q3.gk hw1 hA1.1.1 (by decide)
  have nx0 : ∀ j, ¬ (fun a (_ : Nat) => a = b) x0 j := fun j z => nxb z.symm
  have lx1 : x0 < gx (gpi σ x0 6 (nI (p + 2))) := lx
  have g6 : gi σ2 x0 6 = nI (p + 2) := (q3.gi lx1 (nx0 6)).trans hA1.2.1
  rw [ckT_ok kx2, nx_eq, nx_eq, g6, nI_add]
  have lc : c < gx σ := hw.lt (by rw [hc]; decide)
  have ltx : tx < gx σ := hw.lt (by rw [htx]; decide)
  have ncb : ∀ j, ¬ (fun a (_ : Nat) => a = b) c j := fun j z => by
    have z : c = b := z
    rw [z, hB.1] at hc; exact absurd hc (by decide)
  have hF2 : xF F n x0 σ2 := hA1.1.fr q3 hw1 (nx0 2) (fun q hq j z => by
    obtain ⟨-, q', w2, w3, -⟩ := hA1.1
    rw [w2] at hq
    cases hq
    have z : q = b := z
    rw [z, hB1.1] at w3
    exact absurd w3 (by decide))
  have hn3 : gn σ2 v = gn σ v := y6.trans hn1
  have := x_rt_loop (F := F) (n := n) (x0 := x0) (c := c) (b := b) (tx := tx) (i := i) (sz := sz) (e := p + 2 + U2 F p) (fu := fu) (C := C) (S := S) hn (by omega) hfu hi hsz hS (U2 F p) fu (p + 2) [] v σ2 (by omega) (by omega) (q3.wf hw1) hF2 (fun q hq => by
    rw [q3.gr lx1 (nx0 2)] at hq
    exact hfv q hq) (Z8.fq q3 lx1 (fun j _ => nx0 j) hA1.2.2) (q3.gk hw1 hc (by decide)) ((q3.gr (show c < gx (gpi σ x0 6 (nI (p + 2))) from lc) (ncb 11)).trans h11) (q3.gk hw1 htx (by decide)) ((q3.gn (show tx < gx (gpi σ x0 6 (nI (p + 2))) from ltx)).trans hsz2) y2 (by show 0 ≤ _; omega) (by omega) (by rw [y4]; show _ ≤ gc σ; omega) (by rw [y5, hn3]; show S + 4 + 3 * (0 + _) ≤ gs σ + 2 * gn σ v; omega)
  have hE : (eb (decS F (p + 2 + U2 F p) (U2 F p) (p + 2)) fun t => (.ok ([] ++ t) : FE (List Nat))) = decS F (p + 2 + U2 F p) (U2 F p) (p + 2) := by
    cases decS F (p + 2 + U2 F p) (U2 F p) (p + 2) <;> rfl
  rw [hE] at this
  exact this.fq ((f1.mo (fun a j _ z => Or.inr (Or.inl z))).tr (q3.mo (fun a j _ z => Or.inl (Or.inl z))))
/-- an entry's numbers, out of its bytes at a -/
def tgS (F : Nat → Int32) (a : Nat) : Nat := if a = 0 then 0 else U1 F a
def paS (F : Nat → Int32) (a : Nat) : Nat := if a = 0 then 0 else if U1 F a = 15 then U1 F (a + 1) else if oneT (U1 F a) ∨ twoT (U1 F a) then U2 F (a + 1) else 0
def pbS (F : Nat → Int32) (a : Nat) : Nat := if a = 0 then 0 else if U1 F a = 15 then U2 F (a + 2) else if twoT (U1 F a) then U2 F (a + 3) else 0
def pvS (F : Nat → Int32) (a : Nat) : Int64 := if a = 0 then 0 else if U1 F a = 3 ∨ U1 F a = 4 then (nI (U4 F (a + 1))).toInt64 else if U1 F a = 5 ∨ U1 F a = 6 then (lN (U4 F (a + 1)) <<< ((32 : Int32).toInt64 &&& 63)) ||| lN (U4 F (a + 5)) else 0
/-- the pool's arrays: six in a row from lo -/
def xPS (x0 c b lo sz maj : Nat) (σ : GS) : Prop := (gk σ c = 2 ∧ gi σ c 1 = nI maj) ∧ (gr σ c 7 = some lo ∧ gr σ c 8 = some (lo + 1) ∧ gr σ c 9 = some (lo + 2) ∧ gr σ c 10 = some (lo + 3) ∧ gr σ c 11 = some (lo + 4)) ∧ (gr σ x0 7 = some (lo + 5) ∧ gr σ x0 11 = some b) ∧ (gk σ lo = 101 ∧ gk σ (lo + 1) = 100 ∧ gk σ (lo + 2) = 100 ∧ gk σ (lo + 3) = 104 ∧ gk σ (lo + 4) = 105 ∧ gk σ (lo + 5) = 100) ∧ (gn σ lo = sz ∧ gn σ (lo + 1) = sz ∧ gn σ (lo + 2) = sz ∧ gn σ (lo + 3) = sz ∧ gn σ (lo + 4) = sz ∧ gn σ (lo + 5) = sz) ∧ gb σ ≤ lo ∧ sz < 2 ^ 31
/-- one entry in the arrays -/
def xEn (F : Nat → Int32) (lo v i a : Nat) (t : List Nat) (σ : GS) : Prop := gi σ lo i = nI (tgS F a) ∧ gi σ (lo + 1) i = nI (paS F a) ∧ gi σ (lo + 2) i = nI (pbS F a) ∧ gl σ (lo + 3) i = pvS F a ∧ (a ≠ 0 → gi σ (lo + 5) i = nI a) ∧ (a ≠ 0 → U1 F a = 1 → ∃ s, gr σ (lo + 4) i = some s ∧ sS t s σ ∧ lo + 6 ≤ s ∧ ∀ w, gr σ s 0 = some w → w ≠ v ∧ lo + 6 ≤ w)
def w0 (x0 lo k a j : Nat) : Prop := wx x0 a j ∨ (lo ≤ a ∧ a ≤ lo + 5 ∧ j = k)
def w1 (x0 b v lo k a j : Nat) : Prop := (a = b ∨ a = v) ∨ w0 x0 lo k a j
theorem xPS.fr {x0 c b v lo sz maj k : Nat} {t : List Nat} {σ σ' : GS} (h : xPS x0 c b lo sz maj σ) (hx : gk σ x0 = 1) (hB : bS t b v σ) (f : Fq (w1 x0 b v lo k) σ σ') (hw : WF σ) : xPS x0 c b lo sz maj σ' := by
  obtain ⟨⟨h1, h2⟩, ⟨h3, h4, h5, h6, h7⟩, ⟨h8, h9⟩, ⟨k0, k1, k2, k3, k4, k5⟩, ⟨n0, n1, n2, n3, n4, n5⟩, hb, hs⟩ := h
  have lc : c < gx σ := hw.lt (by rw [h1]; decide)
  have lx : x0 < gx σ := hw.lt (by rw [hx]; decide)
  have ne : ∀ {a K : Nat}, gk σ a = K → K ≠ 2 → c ≠ a := fun {a K} q r z => by rw [← z, h1] at q; exact r q.symm
  have nc : ∀ j, ¬ w1 x0 b v lo k c j := by
    rintro j ((z | z) | z | ⟨z1, z2, z3⟩)
    · exact ne hB.1 (by decide) z
    · exact ne hB.2.2.1 (by decide) z
    · exact ne hx (by decide) z.1
    · have d0 := ne k0 (by decide)
      have d1 := ne k1 (by decide)
      have d2 := ne k2 (by decide)
      have d3 := ne k3 (by decide)
      have d4 := ne k4 (by decide)
      have d5 := ne k5 (by decide)
      omega
  have nex : ∀ {a K : Nat}, gk σ a = K → K ≠ 1 → x0 ≠ a := fun {a K} q r z => by rw [← z, hx] at q; exact r q.symm
  have nx : ∀ j, 7 ≤ j → j ≠ 8 → ¬ w1 x0 b v lo k x0 j := by
    rintro j h7 h8 ((z | z) | z | ⟨z1, z2, z3⟩)
    · exact nex hB.1 (by decide) z
    · exact nex hB.2.2.1 (by decide) z
    · have := z.2
      omega
    · have d0 := nex k0 (by decide)
      have d1 := nex k1 (by decide)
      have d2 := nex k2 (by decide)
      have d3 := nex k3 (by decide)
      have d4 := nex k4 (by decide)
      have d5 := nex k5 (by decide)
      omega
  have ll : ∀ {a K : Nat}, gk σ a = K → K ≠ 0 → a < gx σ := fun {a K} q r => hw.lt (by rw [q]; exact r)
  exact ⟨⟨f.gk hw h1 (by decide), (f.gi lc (nc 1)).trans h2⟩, ⟨(f.gr lc (nc 7)).trans h3, (f.gr lc (nc 8)).trans h4, (f.gr lc (nc 9)).trans h5, (f.gr lc (nc 10)).trans h6, (f.gr lc (nc 11)).trans h7⟩, ⟨(f.gr lx (nx 7 (by omega) (by omega))).trans h8, (f.gr lx (nx 11 (by omega) (by omega))).trans h9⟩, ⟨f.gk hw k0 (by decide), f.gk hw k1 (by decide), f.gk hw k2 (by decide), f.gk hw k3 (by decide), f.gk hw k4 (by decide), f.gk hw k5 (by decide)⟩, ⟨(f.gn (ll k0 (by decide))).trans n0, (f.gn (ll k1 (by decide))).trans n1, (f.gn (ll k2 (by decide))).trans n2, (f.gn (ll k3 (by decide))).trans n3, (f.gn (ll k4 (by decide))).trans n4, (f.gn (ll k5 (by decide))).trans n5⟩, by rw [f.2.1]; exact hb, hs⟩
theorem xEn.fr {F : Nat → Int32} {x0 c b v v' lo sz maj k i a : Nat} {t u : List Nat} {σ σ' : GS} (h : xEn F lo v i a t σ) (hP : xPS x0 c b lo sz maj σ) (hx : gk σ x0 = 1) (hB : bS u b v σ) (f : Fq (w1 x0 b v lo k) σ σ') (hw : WF σ) (hik : i ≠ k) (hvl : v ≠ lo) (hv : v' = v ∨ gx σ ≤ v') : xEn F lo v' i a t σ' := by
  obtain ⟨⟨h1, h2⟩, ⟨h3, h4, h5, h6, h7⟩, ⟨h8, h9⟩, ⟨k0, k1, k2, k3, k4, k5⟩, ⟨n0, n1, n2, n3, n4, n5⟩, hb, hs⟩ := hP
  obtain ⟨e1, e2, e3, e4, e5, e6⟩ := h
  have nb : ∀ {a K : Nat}, gk σ a = K → K ≠ 5 → a ≠ b := fun {a K} q r z => by rw [z, hB.1] at q; exact r q.symm
  have nex : ∀ {a K : Nat}, gk σ a = K → K ≠ 1 → a ≠ x0 := fun {a K} q r z => by rw [z, hx] at q; exact r q.symm
  have ll : ∀ {a K : Nat}, gk σ a = K → K ≠ 0 → a < gx σ := fun {a K} q r => hw.lt (by rw [q]; exact r)
  have nv : ∀ {a K : Nat}, gk σ a = K → K ≠ 101 → a ≠ v := fun {a K} q r z => by rw [z, hB.2.2.1] at q; exact r q.symm
  have na : ∀ a, lo ≤ a → a ≤ lo + 5 → a ≠ b → a ≠ v → a ≠ x0 → ¬ w1 x0 b v lo k a i := by
    rintro a g1 g2 g3 g4 g5 ((z | z) | z | ⟨z1, z2, z3⟩)
    · exact g3 z
    · exact g4 z
    · exact g5 z.1
    · exact hik z3
  have d0 := na lo (by omega) (by omega) (nb k0 (by decide)) (fun z => hvl z.symm) (nex k0 (by decide))
  have d1 := na (lo + 1) (by omega) (by omega) (nb k1 (by decide)) (nv k1 (by decide)) (nex k1 (by decide))
  have d2 := na (lo + 2) (by omega) (by omega) (nb k2 (by decide)) (nv k2 (by decide)) (nex k2 (by decide))
  have d3 := na (lo + 3) (by omega) (by omega) (nb k3 (by decide)) (nv k3 (by decide)) (nex k3 (by decide))
  have d4 := na (lo + 4) (by omega) (by omega) (nb k4 (by decide)) (nv k4 (by decide)) (nex k4 (by decide))
  have d5 := na (lo + 5) (by omega) (by omega) (nb k5 (by decide)) (nv k5 (by decide)) (nex k5 (by decide))
  refine ⟨(f.gi (ll k0 (by decide)) d0).trans e1, (f.gi (ll k1 (by decide)) d1).trans e2, (f.gi (ll k2 (by decide)) d2).trans e3, (f.gl (ll k3 (by decide)) d3).trans e4, fun z => (f.gi (ll k5 (by decide)) d5).trans (e5 z), fun z1 z2 => ?_⟩
  obtain ⟨s, q1, q2, q3, q4⟩ := e6 z1 z2
  have ls : s < gx σ := ll q2.1 (by decide)
  have ns : ∀ j, ¬ w1 x0 b v lo k s j := by
    rintro j ((z | z) | z | ⟨z1, z2, z3⟩)
    · exact nb q2.1 (by decide) z
    · exact nv q2.1 (by decide) z
    · exact nex q2.1 (by decide) z.1
    · omega
  refine ⟨s, (f.gr (ll k4 (by decide)) d4).trans q1, f.str hw q2 ns (fun w hw2 j => ?_), q3, fun w hw2 => ?_⟩
  · have kw : gk σ w = 101 := by
      obtain ⟨-, -, -, w', g4, g5, -⟩ := q2
      rw [g4] at hw2
      cases hw2
      exact g5
    have := q4 w hw2
    rintro ((z | z) | z | ⟨z1, z2, z3⟩)
    · exact nb kw (by decide) z
    · exact this.1 z
    · exact nex kw (by decide) z.1
    · omega
  · rw [f.gr ls (ns 0)] at hw2
    have := q4 w hw2
    have kw : gk σ w = 101 := by
      obtain ⟨-, -, -, w', g4, g5, -⟩ := q2
      rw [g4] at hw2
      cases hw2
      exact g5
    have lw := ll kw (by decide)
    refine ⟨fun z => ?_, this.2⟩
    rcases hv with q | q
    · exact this.1 (z.trans q)
    · exact absurd (Nat.lt_of_lt_of_le lw (z ▸ q)) (Nat.lt_irrefl _)
end XPool
