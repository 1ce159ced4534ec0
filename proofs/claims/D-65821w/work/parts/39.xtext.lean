/-! the component's readText -/
section XText
set_option maxRecDepth 100000
theorem bS.len {t : List Nat} {b v : Nat} {σ : GS} (h : bS t b v σ) : gn σ v ≤ 5280 := by
  rcases h.2.2.2.2.2.2.2 with ⟨-, -, h2, -⟩ | ⟨-, ⟨q, h1, h2, h3⟩, -⟩ <;> omega
theorem bS.fr {t : List Nat} {b v : Nat} {σ σ' : GS} {W : Nat → Nat → Prop} (h : bS t b v σ) (f : Fq W σ σ') (hw : WF σ) (h1 : ∀ j, ¬ W b j) (h2 : ∀ j, ¬ W v j) : bS t b v σ' ∧ gn σ' v = gn σ v := by
  obtain ⟨a1, a2, a3, a4, a5, a6, a7, a8⟩ := h
  have lb : b < gx σ := hw.lt (by rw [a1]; decide)
  have lv : v < gx σ := hw.lt (by rw [a3]; decide)
  have en := f.gn lv
  refine ⟨⟨f.gk hw a1 (by decide), (f.gr lb (h1 0)).trans a2, f.gk hw a3 (by decide), by rw [f.2.1]; exact a4, (f.gi lb (h1 3)).trans a5, a6, a7, ?_⟩, en⟩
  rw [en, f.gi lb (h1 1), f.gi lb (h1 2)]
  rcases a8 with ⟨e1, e2, e3, e4⟩ | ⟨e1, e2, e3, e4⟩
  · exact Or.inl ⟨e1, e2, e3, fun k hk => ⟨(e4 k hk).1, (f.gi lv (h2 k)).trans (e4 k hk).2⟩⟩
  · exact Or.inr ⟨e1, e2, fun k hk => ⟨(f.gi lv (h2 _)).trans (e3 k hk).1, (f.gi lv (h2 _)).trans (e3 k hk).2⟩, e4⟩
/-- what readText writes -/
def wrt (x0 b v tx i a j : Nat) : Prop := (a = b ∨ a = v) ∨ wx x0 a j ∨ (a = tx ∧ j = i)
def xRT (x0 b v tx i e C S : Nat) (E : FE (List Nat)) (σ : GS) (o : Option (Int32 × GS)) : Prop := match E with
  | .error er => ∃ σ' v' t', o = some (0, σ') ∧ xWr x0 er σ' ∧ bS t' b v' σ' ∧ (v' = v ∨ gx σ ≤ v') ∧ Fq (wrt x0 b v tx i) σ σ' ∧ C ≤ gc σ' ∧ S ≤ gs σ' + 2 * gn σ' v'
  | .ok t => ∃ σ' v' t' s, o = some (1, σ') ∧ (Z8 x0 σ' ∧ gi σ' x0 6 = nI e) ∧ (sS t s σ' ∧ gr σ' tx i = some s ∧ gx σ ≤ s ∧ ∀ w, gr σ' s 0 = some w → w ≠ v' ∧ gx σ ≤ w) ∧ bS t' b v' σ' ∧ (v' = v ∨ gx σ ≤ v') ∧ Fq (wrt x0 b v tx i) σ σ' ∧ C ≤ gc σ' ∧ S ≤ gs σ' + 2 * gn σ' v'
theorem xRT.fr {x0 b v v1 tx i e C S : Nat} {E : FE (List Nat)} {σ σ1 : GS} {o : Option (Int32 × GS)} (h : Fr (fun a => a = b ∨ a = v) σ σ1) (hv : v1 = v ∨ gx σ ≤ v1) (k : xRT x0 b v1 tx i e C S E σ1 o) : xRT x0 b v tx i e C S E σ o := by
  have hv2 : ∀ v', (v' = v1 ∨ gx σ1 ≤ v') → v' = v ∨ gx σ ≤ v' := by
    intro v' q
    have := h.1
    omega
  have hf : ∀ σ', Fq (wrt x0 b v1 tx i) σ1 σ' → Fq (wrt x0 b v tx i) σ σ' := by
    intro σ' q
    refine h.q.trw q (fun a j _ z => Or.inl z) (fun a j ha z => ?_)
    rcases z with (z | z) | z
    · exact Or.inl (Or.inl z)
    · exact Or.inl (Or.inr (by omega))
    · exact Or.inr z
  have h1 := h.1
  cases E with
  | error er =>
    obtain ⟨σ', v', t', k1, k2, k3, k4, k5, k6⟩ := k
    exact ⟨σ', v', t', k1, k2, k3, hv2 v' k4, hf σ' k5, k6⟩
  | ok t =>
    obtain ⟨σ', v', t', s, k1, k2, ⟨q1, q2, q3, q4⟩, k3, k4, k5, k6⟩ := k
    exact ⟨σ', v', t', s, k1, k2, ⟨q1, q2, by omega, fun w hw => ⟨(q4 w hw).1, by have := (q4 w hw).2; omega⟩⟩, k3, hv2 v' k4, hf σ' k5, k6⟩
theorem x_rt_loop {F : Nat → Int32} {n x0 c b tx i sz e fu C S : Nat} (hn : n ≤ 1300) (he : e ≤ n) (hfu : 65536 < fu) (hi : i < sz) (hsz : sz < 2 ^ 31) (hS : 40000 ≤ S) : ∀ (f g p : Nat) (u : List Nat) (v : Nat) (σ : GS), e - p ≤ f → f < g → WF σ → xF F n x0 σ → (∀ q, gr σ x0 2 = some q → q ≠ v) → Z8 x0 σ → gk σ c = 2 → gr σ c 11 = some tx → gk σ tx = 105 → gn σ tx = sz → bS u b v σ → u.length ≤ p → p ≤ e → C + 2 * (e - p) + 3 ≤ gc σ → S + 4 + 3 * (u.length + (e - p)) ≤ gs σ + 2 * gn σ v →
    xRT x0 b v tx i e C S (eb (decS F e f p) fun t => .ok (u ++ t)) σ (x_readText_49L fu g σ x0 c (nI i) (some b) (nI e) (nI p)) := by
  have fin : ∀ (k49 : GS → Nat → Nat → Int32 → Option Nat → Int32 → Int32 → Option (Int32 × GS)) (u : List Nat) (v : Nat) (σ : GS), WF σ → xF F n x0 σ → Z8 x0 σ → gk σ c = 2 → gr σ c 11 = some tx → gk σ tx = 105 → gn σ tx = sz → bS u b v σ → C + 3 ≤ gc σ → S + 4 + 3 * u.length ≤ gs σ + 2 * gn σ v →
      xRT x0 b v tx i e C S (.ok u) σ (x_readText_49 fu k49 σ x0 c (nI i) (some b) (nI e) (nI e)) := by
    intro k49 u v σ hw hF h8 hc h11 htx hsz2 hB hC hS2
    unfold x_readText_49
    have hcap := hB.len
    obtain ⟨σ1, q1, q2, q3, q4, q5, q6⟩ := x_toString_ok (fu := fu) hw hB ⟨by omega, by omega⟩ hfu
    have fq := q3.q.mo (W2 := fun _ _ => False) (fun _ _ _ z => z)
    have ltx : tx < gx σ := hw.lt (by rw [htx]; decide)
    have lx : x0 < gx σ := hw.lt (by rw [hF.1]; decide)
    have ktx : gk σ1 tx = 105 := fq.gk hw htx (by decide)
    have kx : gk σ1 x0 = 1 := fq.gk hw hF.1 (by decide)
    rw [if_pos (nI_le (by omega) (by omega)), ckT_ok hc, ckK_ok hB.1, q1, Option.bind_some, h11]
    show xRT _ _ _ _ _ _ _ _ _ _ (ckK σ1 105 (some tx) fun a8 => ckK σ1 6 (some (gx σ)) fun a11 => ckIn (nI i) (gn σ1 a8) (nx (gpr σ1 a8 (nI i).toNatClampNeg (some (gx σ))) fun s15 => ckT s15 1 x0 (nx (gpi s15 x0 6 (nI e)) fun s17 => some ((1 : Int32), s17))))
    rw [ckK_ok ktx, ckK_ok q2.1, fq.gn ltx, hsz2, ckIn_n hi hsz, nI_clamp (by omega), nx_eq, ckT_ok (show gk (gpr σ1 tx i (some (gx σ))) x0 = 1 from kx), nx_eq]
    obtain ⟨hB1, hn1⟩ := hB.fr fq hw (fun _ z => z) (fun _ z => z)
    have hw1 : WF σ1 := fq.wf hw
    have lv : v < gx σ := hw.lt (by rw [hB.2.2.1]; decide)
    have ntb : tx ≠ b := fun z => by rw [z, hB.1] at htx; exact absurd htx (by decide)
    have ntv : tx ≠ v := fun z => by rw [z, hB.2.2.1] at htx; exact absurd htx (by decide)
    have nxb : b ≠ x0 := fun z => by have := hF.1; rw [← z, hB.1] at this; exact absurd this (by decide)
    have nxv : v ≠ x0 := fun z => by have := hF.1; rw [← z, hB.2.2.1] at this; exact absurd this (by decide)
    have f2 : Fq (fun a j => (a = tx ∧ j = i) ∨ (a = x0 ∧ j = 6)) σ1 (gpi (gpr σ1 tx i (some (gx σ))) x0 6 (nI e)) := (Fq.pr (Or.inl ⟨rfl, rfl⟩)).tr (Fq.pi (Or.inr ⟨rfl, rfl⟩))
    have sx : gx σ < gx σ1 := hw1.lt (by rw [q2.1]; decide)
    obtain ⟨hB2, hn2⟩ := hB1.fr f2 hw1 (fun j z => by rcases z with z | z; exact ntb z.1.symm; exact nxb z.1) (fun j z => by rcases z with z | z; exact ntv z.1.symm; exact nxv z.1)
    refine ⟨_, v, u, gx σ, rfl, ⟨?_, gi_gpi_eq⟩, ⟨?_, ?_, Nat.le_refl _, fun w hw2 => ?_⟩, hB2, Or.inl rfl, ?_, ?_, ?_⟩
    · exact Z8.pk (by decide) (Z8.fq fq lx (fun j _ z => z) h8).pr
    · refine f2.str hw1 q2 (fun j z => ?_) (fun w hw2 j z => ?_)
      · rcases z with z | z <;> omega
      · have := q6 w hw2
        rcases z with z | z <;> omega
    · rw [gr_gpi, gr_gpr_eq]
    · have hw3 : gr σ1 (gx σ) 0 = some w := by
        rw [gr_gpi, gr_gpr_ne (Or.inl (by omega))] at hw2
        exact hw2
      have := q6 w hw3
      exact ⟨by omega, by omega⟩
    · refine fq.trw f2 (fun _ _ _ z => z.elim) (fun a j _ z => ?_)
      rcases z with z | z
      · exact Or.inr (Or.inr z)
      · exact Or.inr (Or.inl ⟨z.1, by omega⟩)
    · show C ≤ gc σ1
      omega
    · show S ≤ gs σ1 + 2 * gn σ1 v
      omega
  intro f
  induction f with
  | zero =>
    intro g p u v σ hd hg hw hF hfv h8 hc h11 htx hsz2 hB hu hp hC hS2
    obtain ⟨g, rfl⟩ : ∃ z9, g = z9 + 1 := ⟨g - 1, by omega⟩
    obtain rfl : p = e := by omega
    show xRT _ _ _ _ _ _ _ _ (.ok (u ++ [])) σ (x_readText_49 fu (x_readText_49L fu g) σ x0 c (nI i) (some b) (nI p) (nI p))
    rw [List.append_nil]
    exact fin _ u v σ hw hF h8 hc h11 htx hsz2 hB (by omega) (by omega)
  | succ f ih =>
    intro g p u v σ hd hg hw hF hfv h8 hc h11 htx hsz2 hB hu hp hC hS2
    obtain ⟨g, rfl⟩ : ∃ z9, g = z9 + 1 := ⟨g - 1, by omega⟩
    show xRT _ _ _ _ _ _ _ _ _ σ (x_readText_49 fu (x_readText_49L fu g) σ x0 c (nI i) (some b) (nI e) (nI p))
    unfold decS
    by_cases hpe : e ≤ p
    · obtain rfl : p = e := by omega
      rw [if_pos hpe]
      show xRT _ _ _ _ _ _ _ _ (.ok (u ++ [])) σ _
      rw [List.append_nil]
      exact fin _ u v σ hw hF h8 hc h11 htx hsz2 hB (by omega) (by omega)
    rw [if_neg hpe]
    have hb := U1_lt F p
    have hx1 := hF.1
    have lx : x0 < gx σ := hw.lt (by rw [hx1]; decide)
    have hcap := hB.len
    unfold x_readText_49
    rw [if_neg (nI_ge (by omega) (by omega)), ckT_ok hx1, x_u1_ok hF (by omega), Option.bind_some]
    have nxb : b ≠ x0 := fun z => by have := hF.1; rw [← z, hB.1] at this; exact absurd this (by decide)
    have nxv : v ≠ x0 := fun z => by have := hF.1; rw [← z, hB.2.2.1] at this; exact absurd this (by decide)
    have wr : ∀ E : FE (List Nat), E = .error (6, p) → xRT x0 b v tx i e C S (eb E fun t => .ok (u ++ t)) σ (x_readText_120 fu σ x0 (nI p)) := by
      rintro _ rfl
      unfold x_readText_120
      rw [ckT_ok hx1, show (6 : Int32) = nI 6 from rfl, x_wrong_ok hx1 h8, Option.bind_some]
      have f2 : Fq (wx x0) σ (xwr σ x0 6 p) := Fq.wr (fun _ _ z => z)
      obtain ⟨hB2, hn2⟩ := hB.fr f2 hw (fun j z => nxb z.1) (fun j z => nxv z.1)
      refine ⟨xwr σ x0 6 p, v, u, ?_, xwr_ok, hB2, Or.inl rfl, f2.mo (fun a j _ z => Or.inr (Or.inl z)), ?_, ?_⟩
      · show (if vp_nar .boolean (0 : Int32) = 0 then some ((0 : Int32), xwr σ x0 6 p) else none) = _
        rw [if_pos (by decide)]
      · show C ≤ gc σ
        omega
      · show S ≤ gs σ + 2 * gn σ v
        omega
    have wr2 : ∀ E : FE (List Nat), E = .error (6, p) → xRT x0 b v tx i e C S (eb E fun t => .ok (u ++ t)) σ (x_readText_199 fu σ x0 (nI p)) := wr
    -- a character is appended; the next round
    have put : ∀ (v0 d : Nat) (o : Option (Int32 × GS)), v0 < 65536 → p + (d + 1) ≤ e → (o = ckK σ 5 (some b) fun a2 => (x_J1_append_3 fu σ a2 ((nI v0).toUInt32 % 65536).toInt32).bind fun r5 => nx (nI p + (nI d + (1 : Int32))) fun y7 => x_readText_49L fu g r5.2 x0 c (nI i) (some b) (nI e) y7) → xRT x0 b v tx i e C S (eb (eb (decS F e f (p + (d + 1))) fun t => .ok (v0 :: t)) fun t => .ok (u ++ t)) σ o := by
      rintro v0 d _ hv hd2 rfl
      obtain ⟨σ1, v1, y1, y2, y3, y4, y5, y6⟩ := x_append_ok (fu := fu) hw hB hv (by omega) ⟨by omega, by omega⟩ hfu
      rw [ckK_ok hB.1, nI_char hv, y1, Option.bind_some, nx_eq, nI_1, nI_add, eb_snoc]
      have hw1 := y4.q.wf hw
      have ltx : tx < gx σ := hw.lt (by rw [htx]; decide)
      have lc : c < gx σ := hw.lt (by rw [hc]; decide)
      have ncb : ∀ j, ¬ (fun a (_ : Nat) => a = b ∨ a = v) c j := fun j z => by
        rcases z with z | z
        · rw [z, hB.1] at hc; exact absurd hc (by decide)
        · rw [z, hB.2.2.1] at hc; exact absurd hc (by decide)
      have nx0 : ∀ j, ¬ (fun a (_ : Nat) => a = b ∨ a = v) x0 j := fun j z => by
        rcases z with z | z
        · exact nxb z.symm
        · exact nxv z.symm
      have hF1 : xF F n x0 σ1 := hF.fr y4.q hw (nx0 2) (fun q hq j z => by
        rcases z with z | z
        · obtain ⟨-, q', w2, w3, -⟩ := hF
          rw [w2] at hq
          cases hq
          rw [z, hB.1] at w3
          exact absurd w3 (by decide)
        · exact hfv q hq z)
      have := ih g (p + (d + 1)) (u ++ [v0]) v1 σ1 (by omega) (by omega) hw1 hF1 (fun q hq => by
        rw [y4.q.gr lx (nx0 2)] at hq
        have h1 := hfv q hq
        have h2 : q < gx σ := by
          obtain ⟨-, q', w2, w3, -⟩ := hF
          rw [w2] at hq
          cases hq
          exact hw.lt (by rw [w3]; decide)
        omega) (Z8.fq y4.q lx (fun j _ => nx0 j) h8) (y4.q.gk hw hc (by decide)) ((y4.q.gr lc (ncb 11)).trans h11) (y4.q.gk hw htx (by decide)) ((y4.q.gn ltx).trans hsz2) y2 (by rw [List.length_append]; show u.length + 1 ≤ _; omega) hd2 (by omega) (by rw [List.length_append]; show S + 4 + 3 * (u.length + 1 + (e - (p + (d + 1)))) ≤ _; omega)
      exact this.fr y4 y3
    obtain ⟨h, hfu2⟩ : ∃ h, fu = h + 1 + 1 + 1 := ⟨fu - 3, by omega⟩
    have l1 : ∀ (m : Nat) (x8 x9 x10 : Int32), x_readText_163L fu (x_readText_49L fu g) (m + 1) σ x0 c (nI i) (some b) (nI e) (nI p) x8 x9 x10 = x_readText_163 fu (x_readText_49L fu g) (x_readText_163L fu (x_readText_49L fu g) m) σ x0 c (nI i) (some b) (nI e) (nI p) x8 x9 x10 := fun _ _ _ _ => rfl
    have l0 : ∀ (x8 x9 : Int32), x_readText_158 fu (x_readText_49L fu g) σ x0 c (nI i) (some b) (nI e) (nI p) x8 x9 = x_readText_163 fu (x_readText_49L fu g) (x_readText_163L fu (x_readText_49L fu g) (h + 1 + 1)) σ x0 c (nI i) (some b) (nI e) (nI p) x8 x9 1 := fun x8 x9 => (congrArg (fun m => x_readText_163L fu (x_readText_49L fu g) m σ x0 c (nI i) (some b) (nI e) (nI p) x8 x9 1) hfu2).trans (l1 _ _ _ _)
    have e89 : ∀ t0 : Int32, x_readText_89 fu (x_readText_49L fu g) σ x0 c (nI i) (some b) (nI e) (nI p) (nI (U1 F p)) t0 = if U1 F p = 0 ∨ 240 ≤ U1 F p ∨ (128 ≤ U1 F p ∧ U1 F p < 192) then x_readText_120 fu σ x0 (nI p) else x_readText_129 fu (x_readText_49L fu g) σ x0 c (nI i) (some b) (nI e) (nI p) (nI (U1 F p)) t0 := by
      intro t0
      unfold x_readText_89
      simp (disch := (first | omega | decide)) only [nI_eqL, nI_leL, nI_ltL, nI_Lle, nI_Llt, nI_eq, nI_leI, nI_ltI]
      split
      · rw [if_pos (by omega)]
      · split
        · rw [if_pos (by omega)]
        · split
          · rw [if_neg (by omega)]
          · split
            · rw [if_neg (by omega)]
            · rw [if_pos (by omega)]
    by_cases hbad : U1 F p = 0 ∨ 240 ≤ U1 F p ∨ (128 ≤ U1 F p ∧ U1 F p < 192)
    · simp only [e89, if_pos hbad]
      split
      · split <;> exact wr _ rfl
      · exact wr _ rfl
    simp only [e89, if_neg hbad]
    unfold x_readText_129
    by_cases h1 : U1 F p < 128
    · rw [if_pos h1, if_neg (show ¬ (128 : Int32) ≤ nI (U1 F p) from nI_ge (b := 128) h1 (by omega)), if_pos (rfl : (0 : Int32) = 0), l0]
      unfold x_readText_163
      rw [if_pos (show (0 : Int32) < 1 by decide)]
      exact put _ 0 _ (by omega) (by omega) rfl
    rw [if_neg h1, if_pos (show (128 : Int32) ≤ nI (U1 F p) from nI_le (a := 128) (by omega) (by omega))]
    have hb1 := U1_lt F (p + 1)
    have hb2 := U1_lt F (p + 2)
    by_cases h2 : U1 F p < 224
    · rw [if_pos h2, if_neg (show ¬ (224 : Int32) ≤ nI (U1 F p) from nI_ge (b := 224) h2 (by omega)), if_neg i10, if_pos (rfl : (1 : Int32) = 1), l0]
      unfold x_readText_163
      rw [if_neg (show ¬ (1 : Int32) < 1 by decide), nI_1, ckT_ok hx1]
      by_cases h3 : p + 1 < e
      · rw [if_neg (show ¬ nI e ≤ nI (p + 1) from nI_ge (by omega) (by omega)), x_u1_ok hF (by omega), Option.bind_some, Option.bind_some]
        by_cases h4 : U1 F (p + 1) / 64 = 2
        · rw [if_pos (show p + 1 < e ∧ U1 F (p + 1) / 64 = 2 from ⟨h3, h4⟩), if_pos ((and192 _ hb1).mpr h4), nx_eq, nx_eq, l1]
          unfold x_readText_163
          rw [if_pos (show (1 : Int32) < 1 + 1 by decide), pk_andN (by omega) 5 (by decide), pk_andN (by omega) 6 (by decide), pk_shlN _ 6 (by decide) (by omega), nI_or (k := 6) (by omega) (by omega)]
          exact put _ 1 _ (by omega) (by omega) rfl
        · rw [if_neg (show ¬ (p + 1 < e ∧ U1 F (p + 1) / 64 = 2) from fun q => h4 q.2), if_neg (fun q => h4 ((and192 _ hb1).mp q))]
          exact wr2 _ rfl
      · rw [if_neg (show ¬ (p + 1 < e ∧ U1 F (p + 1) / 64 = 2) from fun q => h3 q.1), if_pos (show nI e ≤ nI (p + 1) from nI_le (by omega) (by omega))]
        exact wr2 _ rfl
    · rw [if_neg h2, if_pos (show (224 : Int32) ≤ nI (U1 F p) from nI_le (a := 224) (by omega) (by omega)), if_neg (show ¬ (2 : Int32) = 0 by decide), if_neg (show ¬ (2 : Int32) = 1 by decide), l0]
      unfold x_readText_163
      rw [if_neg (show ¬ (2 : Int32) < 1 by decide), nI_1, ckT_ok hx1]
      by_cases h3 : p + 1 < e
      · rw [if_neg (show ¬ nI e ≤ nI (p + 1) from nI_ge (by omega) (by omega)), x_u1_ok hF (by omega), Option.bind_some, Option.bind_some]
        by_cases h4 : U1 F (p + 1) / 64 = 2
        · rw [if_pos ((and192 _ hb1).mpr h4), nx_eq, nx_eq, l1]
          unfold x_readText_163
          rw [if_neg (show ¬ (2 : Int32) < 1 + 1 by decide), show nI p + ((1 : Int32) + 1) = nI (p + 2) from nI_add p 2, ckT_ok hx1]
          by_cases h5 : p + 2 < e
          · rw [if_neg (show ¬ nI e ≤ nI (p + 2) from nI_ge (by omega) (by omega)), x_u1_ok hF (by omega), Option.bind_some, Option.bind_some]
            by_cases h6 : U1 F (p + 2) / 64 = 2
            · rw [if_pos (show (p + 1 < e ∧ U1 F (p + 1) / 64 = 2) ∧ p + 2 < e ∧ U1 F (p + 2) / 64 = 2 from ⟨⟨h3, h4⟩, h5, h6⟩), if_pos ((and192 _ hb2).mpr h6), nx_eq, nx_eq, l1]
              unfold x_readText_163
              rw [if_pos (show (2 : Int32) < 1 + 1 + 1 by decide), pk_andN (by omega) 4 (by decide), pk_andN (by omega) 6 (by decide), pk_andN (by omega) 6 (by decide), pk_shlN (n := U1 F p % 2 ^ 4) _ 6 (by decide) (by omega), nI_or (k := 6) (by omega) (by omega), pk_shlN _ 6 (by decide) (by omega), nI_or (k := 6) (by omega) (by omega), show (U1 F p % 2 ^ 4 * 2 ^ 6 + U1 F (p + 1) % 2 ^ 6) * 2 ^ 6 + U1 F (p + 2) % 2 ^ 6 = U1 F p % 16 * 4096 + U1 F (p + 1) % 64 * 64 + U1 F (p + 2) % 64 by omega]
              exact put _ 2 _ (by omega) (by omega) rfl
            · rw [if_neg (show ¬ ((p + 1 < e ∧ U1 F (p + 1) / 64 = 2) ∧ p + 2 < e ∧ U1 F (p + 2) / 64 = 2) from fun q => h6 q.2.2), if_neg (fun q => h6 ((and192 _ hb2).mp q))]
              exact wr2 _ rfl
          · rw [if_neg (show ¬ ((p + 1 < e ∧ U1 F (p + 1) / 64 = 2) ∧ p + 2 < e ∧ U1 F (p + 2) / 64 = 2) from fun q => h5 q.2.1), if_pos (show nI e ≤ nI (p + 2) from nI_le (by omega) (by omega))]
            exact wr2 _ rfl
        · rw [if_neg (show ¬ ((p + 1 < e ∧ U1 F (p + 1) / 64 = 2) ∧ p + 2 < e ∧ U1 F (p + 2) / 64 = 2) from fun q => h4 q.1.2), if_neg (fun q => h4 ((and192 _ hb1).mp q))]
          exact wr2 _ rfl
      · rw [if_neg (show ¬ ((p + 1 < e ∧ U1 F (p + 1) / 64 = 2) ∧ p + 2 < e ∧ U1 F (p + 2) / 64 = 2) from fun q => h3 q.1.1), if_pos (show nI e ≤ nI (p + 1) from nI_le (by omega) (by omega))]
        exact wr2 _ rfl
end XText
