/-! the component's readPool: the loop -/
section XRp5
set_option maxRecDepth 100000
theorem gc_xwr {σ : GS} {x0 r p : Nat} : gc (xwr σ x0 r p) = gc σ := gc_gpi.trans (gc_gpi.trans gc_gpi)
theorem gs_xwr {σ : GS} {x0 r p : Nat} : gs (xwr σ x0 r p) = gs σ := gs_gpi.trans (gs_gpi.trans gs_gpi)
theorem gx_xwr {σ : GS} {x0 r p : Nat} : gx (xwr σ x0 r p) = gx σ := gx_gpi.trans (gx_gpi.trans gx_gpi)
theorem entS_b {F : Nat → Int32} {n maj cnt k p : Nat} : entS F n maj cnt k p = eb (itS n p 1) fun _ => if ¬ goodT (U1 F p) maj then .error (5, p) else if (U1 F p = 5 ∨ U1 F p = 6) ∧ cnt ≤ k + 1 then .error (7, p) else bodS F n p := rfl
theorem ckN_0 {α : Type} {k : Option α} : ckN .boolean (0 : Int32) k = k := by
  unfold ckN
  rw [if_pos (by decide)]
theorem x_rp_loop {F : Nat → Int32} {n x0 c b lo sz maj cnt C S fu : Nat} (hn : n ≤ 1300) (hmaj : maj < 65536) (h45 : 45 ≤ maj) (hcnt : cnt < 65536) (hfu : 65536 < fu) (hS : 40000 ≤ S) (hsz : ∀ k, k < cnt → 3 * k + 7 ≤ n → k < sz) : ∀ (f g k p : Nat) (A : Nat → Nat) (T : Nat → List Nat) (v : Nat) (u : List Nat) (σ : GS), cnt - k < f → f ≤ g → k ≤ cnt → p ≤ n → 10 ≤ p → 3 * k + 7 ≤ p → (∀ i, k ≤ i → A i = 0) → xHd F n x0 c b v lo sz maj k p A T C S u σ →
    xRP F n x0 c b v lo sz maj cnt C S (rpS F n maj cnt f k p A T) σ (x_readPool_65L fu g σ x0 c (nI cnt) (nI k)) := by
  intro f
  induction f with
  | zero => intro g k p A T v u σ h; omega
  | succ f ih =>
    intro g k p A T v u σ hf hg hk hp h10 h37 hA0 hH
    obtain ⟨g, rfl⟩ : ∃ g', g = g' + 1 := ⟨g - 1, by omega⟩
    show xRP _ _ _ _ _ _ _ _ _ _ _ _ _ σ (x_readPool_65 fu (x_readPool_65L fu g) σ x0 c (nI cnt) (nI k))
    unfold x_readPool_65 rpS
    have hH0 := hH
    obtain ⟨⟨hw, hA, hP, hB⟩, hE, hz, ⟨hl1, hl2, hl3⟩, hC, hS2⟩ := hH
    by_cases hc : cnt ≤ k
    · obtain rfl : k = cnt := by omega
      rw [if_pos hc, if_pos (nI_le (by omega) (by omega))]
      exact ⟨σ, v, u, rfl, ⟨hA, hP, hE⟩, hB, Or.inl rfl, Fq.rf, by omega, by omega⟩
    obtain ⟨⟨c1, c2⟩, ⟨r7, r8, r9, r10, r11⟩, ⟨s7, s11⟩, ks, ⟨n0, n1, n2, n3, n4, n5⟩, hgb, hsz31⟩ := hP
    have hx := hA.1.1
    obtain ⟨w0b, w0v⟩ := w0_b (k := k) hx hB ks hl1
    have nc0 := w0_c (k := k) (lo := lo) hx c1 ks
    obtain ⟨k0, k1, k2, k3, k4, k5⟩ := ks
    have x_5 : lo + 5 ≠ x0 := fun z => by rw [z, hx] at k5; exact absurd k5 (by decide)
    have err : ∀ (er : Nat × Nat) (σ1 : GS), Fq (w0 x0 lo k) σ σ1 → gc σ1 = gc σ → gs σ1 = gs σ → xWr x0 er σ1 → xRP F n x0 c b v lo sz maj cnt C S (.error er) σ (some (0, σ1)) := by
      intro er σ1 f1 e1 e2 hwr
      obtain ⟨hB1, hn1⟩ := hB.fr f1 hw w0b w0v
      exact ⟨σ1, v, u, rfl, hwr, hB1, Or.inl rfl, (f1.mo (fun _ _ _ z => w1.p (Or.inr z))), by omega, by rw [hn1]; omega⟩
    have A1 : xA F n x0 p (gpi σ (lo + 5) k (nI p)) := hA.pi (by rw [k5]; decide) x_5
    have f1 : Fq (w0 x0 lo k) σ (gpi σ (lo + 5) k (nI p)) := Fq.pi (Or.inr ⟨by omega, by omega, rfl⟩)
    have ew : ∀ r q, xRP F n x0 c b v lo sz maj cnt C S (.error (r, q)) σ (some (0, xwr (gpi σ (lo + 5) k (nI p)) x0 r q)) := fun r q => err (r, q) _ (f1.tr (Fq.wr (fun _ _ z => Or.inl z))) (gc_xwr.trans gc_gpi) (gs_xwr.trans gs_gpi) xwr_ok
    have g1c : gk (gpi σ (lo + 5) k (nI p)) c = 2 := gk_gpi.trans c1
    have lc : c < gx σ := hw.lt (by rw [c1]; decide)
    have g1m : gi (gpi σ (lo + 5) k (nI p)) c 1 = nI maj := (f1.gi lc (nc0 1)).trans c2
    have hb := U1_lt F p
    by_cases hks : k < sz
    case neg =>
      have : ¬ 3 * k + 7 ≤ n := fun z => hks (hsz k (by omega) z)
      omega
    rw [if_neg hc, if_neg (nI_ge (by omega) (by omega)), ckT_ok hx, s7, ckK_ok k5, n5, ckIn_n hks hsz31, nx_eq, nI_clamp (by omega), hA.2.1, entS_b, eb_eb, show (1 : Int64) = lN 1 from rfl, x_has_ok A1 (by omega) hp (by omega)]
    by_cases z1 : n < p + 1
    · rw [if_pos z1, Option.bind_some, if_pos rfl, show itS n p 1 = .error (1, p) from if_pos z1]
      exact ew 1 p
    rw [if_neg z1, Option.bind_some, if_neg i10, show itS n p 1 = .ok () from if_neg z1, eb_ok]
    show xRP _ _ _ _ _ _ _ _ _ _ _ _ _ _ (ckT (gpi σ (lo + 5) k (nI p)) 1 x0 ((x_u1 (gpi σ (lo + 5) k (nI p)) x0 (gi (gpi σ (lo + 5) k (nI p)) x0 6)).bind _))
    rw [ckT_ok A1.1.1, A1.2.1, x_u1_ok A1.1 (by omega), Option.bind_some, x_gate hb hmaj h45 g1c g1m]
    by_cases hg : goodT (U1 F p) maj
    case neg =>
      rw [if_pos (show ¬ goodT (U1 F p) maj from hg), if_neg hg]
      unfold x_readPool_217
      rw [ckT_ok A1.1.1, A1.2.1, show (5 : Int32) = nI 5 from rfl, x_wrong_ok A1.1.1 A1.2.2, Option.bind_some, ckN_0]
      exact ew 5 p
    rw [if_neg (show ¬ ¬ goodT (U1 F p) maj from fun z => z hg), if_pos hg]
    by_cases h56 : (U1 F p = 5 ∨ U1 F p = 6) ∧ cnt ≤ k + 1
    · rw [if_pos h56, if_pos h56.1]
      unfold x_readPool_240
      rw [nI_1, if_neg (nI_nlt (by omega) (by omega)), ckT_ok A1.1.1, A1.2.1, show (7 : Int32) = nI 7 from rfl, x_wrong_ok A1.1.1 A1.2.2, Option.bind_some, ckN_0]
      exact ew 7 p
    have c56 : cnt ≤ k + 1 → ¬ (U1 F p = 5 ∨ U1 F p = 6) := fun z w => h56 ⟨w, z⟩
    have e259 : ∀ σ1 : GS, (if U1 F p = 5 ∨ U1 F p = 6 then x_readPool_240 fu (x_readPool_65L fu g) σ1 x0 c (nI cnt) (nI k) (nI (U1 F p)) else x_readPool_259 fu (x_readPool_65L fu g) σ1 x0 c (nI cnt) (nI k) (nI (U1 F p))) = x_readPool_259 fu (x_readPool_65L fu g) σ1 x0 c (nI cnt) (nI k) (nI (U1 F p)) := by
      intro σ1
      split
      · rename_i z
        unfold x_readPool_240
        rw [nI_1, if_pos (nI_lt (Nat.lt_of_not_le fun w => c56 w z) (by omega))]
      · rfl
    rw [if_neg h56, e259]
    refine x_body hn hfu hS hks (by omega) h10 hg hH0 fun q t u3 v3 σ3 y1 y2 y3 y4 y5 y6 y7 y8 y9 => ?_
    exact x_rp_cont hcnt (by omega) (by omega) hA0 h10 h37 hH0 (fun k p A T v u σ a1 a2 a3 a4 a5 a6 a7 => ih g k p A T v u σ a1 (by omega) a2 a3 a4 a5 a6 a7) q t u3 v3 σ3 y1 y2 c56 y3 y4 y5 y6 y7 y8 y9
end XRp5
