/-! a whole file: the twin -/
section MChk
set_option maxRecDepth 100000
variable {P : PD} {N fu : Nat} {S : Nat → List Nat} {σ : SM}
theorem m_rs_loop {nb : Nat} (h : mPo P N S σ) (g : PG P) (h71 : σ.1 71 = nI nb) (hb : nb < 65536) : ∀ d k f, k + d = ctP P → d < f → m_checkFile_94L fu f σ (nI k) = mE σ (rsS P nb d k) := by
  have hn := g.1
  have hct := ctP_lt P
  intro d
  induction d with
  | zero =>
    intro k f hk hf
    obtain ⟨f, rfl⟩ : ∃ z9, f = z9 + 1 := ⟨f - 1, by omega⟩
    show m_checkFile_94 fu (m_checkFile_94L fu f) σ (nI k) = _
    unfold m_checkFile_94
    rw [h.1.2.2.1, if_pos (nI_le (by omega) (by omega))]
    rfl
  | succ d ih =>
    intro k f hk hf
    obtain ⟨f, rfl⟩ : ∃ z9, f = z9 + 1 := ⟨f - 1, by omega⟩
    have tl := tgP_lt P k
    have pl := paP_lt P k
    have go : m_checkFile_151 fu (m_checkFile_94L fu f) σ (nI k) = mE σ (rsS P nb d (k + 1)) := by
      unfold m_checkFile_151
      rw [nx_eq, nI_1]
      exact ih (k + 1) f (by omega) (by omega)
    show m_checkFile_94 fu (m_checkFile_94L fu f) σ (nI k) = _
    unfold m_checkFile_94 rsS
    have e120 : tgP P k = 17 ∨ tgP P k = 18 → m_checkFile_120 fu (m_checkFile_94L fu f) σ (nI k) = mE σ (if (tgP P k = 17 ∨ tgP P k = 18) ∧ nb ≤ paP P k then .error (40, P.2.2.1 k) else rsS P nb d (k + 1)) := fun ht => by
      unfold m_checkFile_120
      have hi := g.in (i := k) (by omega)
      rw [m_ix1 h g (Or.inr (by omega)), Option.bind_some, h71, go]
      by_cases z : nb ≤ paP P k
      · rw [if_neg (nI_nlt z (by omega)), if_pos ⟨ht, z⟩, h.1.2.1, Int32.zero_add, ckIn_n (by omega) (by omega), nI_clamp (by omega), (h.2.2 k hi.2.1).1, if_neg hi.2.2.1, m_wL 40]
        rfl
      · rw [if_pos (nI_lt (by omega) (by omega)), if_neg (fun w => z w.2)]
    rw [h.1.2.2.1, if_neg (nI_ge (by omega) (by omega)), m_tag_ok h g (by omega), Option.bind_some]
    by_cases t17 : tgP P k = 17
    · rw [if_pos (show nI (tgP P k) = (17 : Int32) by rw [t17]; rfl)]
      exact e120 (Or.inl t17)
    rw [if_neg (nL (k := 17) (by omega) (by omega) t17)]
    by_cases t18 : tgP P k = 18
    · rw [if_pos (show nI (tgP P k) = (18 : Int32) by rw [t18]; rfl)]
      exact e120 (Or.inr t18)
    · rw [if_neg (nL (k := 18) (by omega) (by omega) t18), go, if_neg (fun w => w.1.elim t17 t18)]
/-- what the twin keeps of a class -/
def mKp (F : Nat → Int32) (n : Nat) (K : CR) (N : Nat) (S : Nat → List Nat) (σ : SM) : Prop := mPo (F, n, K.1.1, K.1.2.1) N S σ ∧ (σ.1 54 = nI K.1.2.2.1 ∧ σ.1 58 = nI (U2 F K.1.2.2.1) ∧ σ.1 61 = nI (U2 F (K.1.2.2.1 + 6)) ∧ σ.1 25 = nI (U2 F K.1.2.2.2.1) ∧ σ.1 26 = nI (U2 F K.1.2.2.2.2.1)) ∧ (∀ j, j < U2 F K.1.2.2.2.1 → mFd (F, n, K.1.1, K.1.2.1) N S j (K.2.1 j) σ) ∧ (∀ j, j < U2 F K.1.2.2.2.2.1 → mMt (F, n, K.1.1, K.1.2.1) N S j (K.2.2.1 j) σ) ∧ mV3 F K.2.2.2 σ
abbrev ckL9 : List Nat := [3, 8, 20, 25, 26, 47, 48, 50, 51, 52, 53, 54, 55, 56, 57, 58, 59, 60, 61, 65, 66, 67, 68, 69, 70, 71, 72]
abbrev ckA9 : List Nat := [1, 2, 4, 5, 6, 7, 21, 22, 27, 28, 29, 30, 31, 32, 33, 34, 35, 36, 37, 38, 39, 40, 41, 42, 43, 44, 45, 46]
theorem m_checkFile_ok {F : Nat → Int32} {n : Nat} (hn : n ≤ 1300) (hfu : 131072 < fu) (hF : mF F n σ) (h20 : σ.1 20 = 0) (h25 : σ.1 25 = 0) (h26 : σ.1 26 = 0) (hS : mSI N S σ) (hN : N ≤ 3) (hst : sta S N ≤ 40) (hK : mKn σ) : mRes ckL9 ckA9 (chkS F n) (fun K σ' => FO F n K.1 ∧ ∃ N S, mKp F n K N S σ') σ (m_checkFile fu σ) := by
  unfold m_checkFile m_checkFile_0
  simp only [nx_eq]
  have A0 : mfr [65, 66, 67, 68, 69, 70, 71, 72] [] σ (sf (sf (sf (sf (sf (sf (sf (sf σ 67 (-1)) 68 0) 69 0) 65 0) 66 0) 70 (-1)) 71 0) 72 (-1)) := (mfr.sf (by decide)).tr ((mfr.sf (by decide)).tr ((mfr.sf (by decide)).tr ((mfr.sf (by decide)).tr ((mfr.sf (by decide)).tr ((mfr.sf (by decide)).tr ((mfr.sf (by decide)).tr (mfr.sf (by decide))))))))
  have V0 : mV3 F (fun _ => 0) (sf (sf (sf (sf (sf (sf (sf (sf σ 67 (-1)) 68 0) 69 0) 65 0) 66 0) 70 (-1)) 71 0) 72 (-1)) := by
    refine ⟨?_, ?_, ?_, ?_, ?_, ?_⟩
    · simp (disch := decide) only [sf_ne, sf_eq]; rfl
    · simp (disch := decide) only [sf_ne, sf_eq]; rfl
    · simp (disch := decide) only [sf_ne, sf_eq]; rfl
    · simp (disch := decide) only [sf_ne, sf_eq]; rfl
    · rw [sf_eq]; rfl
    · rw [if_pos rfl]
      simp (disch := decide) only [sf_ne, sf_eq]
      exact ⟨trivial, trivial⟩
  generalize sf (sf (sf (sf (sf (sf (sf (sf σ 67 (-1)) 68 0) 69 0) 65 0) 66 0) 70 (-1)) 71 0) 72 (-1) = σ0 at *
  refine mRes.fr (A0.mo (by decide +kernel) (by decide +kernel)) ?_
  have F0 : mF F n σ0 := A0.mF hF (by decide) (by decide) (by decide)
  have K0 : mKn σ0 := hK.fr A0 (by decide) (by decide)
  have z25 : σ0.1 25 = 0 := (A0.1 25 (by decide)).trans h25
  have z26 : σ0.1 26 = 0 := (A0.1 26 (by decide)).trans h26
  unfold chkS
  have R1 := m_readFile_ok (fu := fu) (by omega) (by omega) F0 ((A0.1 20 (by decide)).trans h20) (hS.fr A0 (by decide) (by decide)) hN hst
  refine mRes.bnd (Q1 := fun r σ' => mFQ F n r σ' ∧ mfr mFL mFA σ0 σ') (R1.mo (by decide +kernel) (by decide +kernel) (fun _ _ _ w f => ⟨w, f⟩)) ?_
  rintro r σ1 hE ⟨hQ, A1⟩ -
  have hFO := fileS_FO hn hE
  obtain ⟨A, T, hd, fa, ma, aa⟩ := r
  have hFO' := hFO
  obtain ⟨g, hd10, hfa, hfan, hmf, hmm, hma⟩ := hFO
  dsimp only at g hd10 hfa hfan hmf hmm hma
  obtain ⟨⟨N1, S1, p1⟩, i54, i55, i56, i57⟩ := mFQ_mPo hQ
  dsimp only at p1 i54 i55 i56 i57
  have K1 := K0.fr A1 (by decide) (by decide)
  have y25 := (A1.1 25 (by decide)).trans z25
  have y26 := (A1.1 26 (by decide)).trans z26
  have hma2 := hma
  unfold attrS at hma2
  obtain ⟨_, hma3, hma2⟩ := eb_inv hma2
  have hma3 := itS_ok hma3
  have hmm2 := hmm
  unfold membS at hmm2
  obtain ⟨_, hmm3, hmm2⟩ := eb_inv hmm2
  have hmm3 := itS_ok hmm3
  have hmf2 := hmf
  unfold membS at hmf2
  obtain ⟨_, hmf3, hmf2⟩ := eb_inv hmf2
  have hmf3 := itS_ok hmf3
  have V1 : mV3 F (fun _ => 0) σ1 := by
    obtain ⟨v1, v2, v3, v4, v5, v6⟩ := V0
    rw [if_pos rfl] at v6
    refine ⟨(A1.1 66 (by decide)).trans v1, (A1.1 65 (by decide)).trans v2, (A1.1 68 (by decide)).trans v3, (A1.1 69 (by decide)).trans v4, (A1.1 72 (by decide)).trans v5, ?_⟩
    rw [if_pos rfl]
    exact ⟨(A1.1 70 (by decide)).trans v6.1, (A1.1 71 (by decide)).trans v6.2⟩
  show mRes _ _ (eb (cpS (F, n, A, T) (ctP (F, n, A, T) - 1) 1) _) _ σ1 _
  rw [m_checkPool_ok p1 g hfu]
  cases hcp : cpS (F, n, A, T) (ctP (F, n, A, T) - 1) 1 with
  | error er => exact mRes.er (r := er.1) (p := er.2) (by decide) (by decide)
  | ok u0 =>
    have rg := RG_of g hcp
    show mRes _ _ (eb (headS (F, n, A, T) hd) _) _ σ1 ((m_checkClass fu σ1).bind _)
    refine mRes.bnd (Q1 := fun _ σ' => (σ'.1 58 = nI (U2 F hd) ∧ σ'.1 61 = nI (U2 F (hd + 6))) ∧ mfr [47, 48, 58, 59, 60, 61] [] σ1 σ') ((m_checkClass_ok p1 g rg hfu i54 (show hd + 8 + 2 * U2 F (hd + 6) ≤ n by omega)).mo (by decide +kernel) (by decide +kernel) (fun _ _ _ w f => ⟨w, f⟩)) ?_
    rintro - σ2 - ⟨⟨i58, i61⟩, A2⟩ -
    have p2 := p1.fr A2 (by decide) (by decide)
    have K2 := K1.fr A2 (by decide) (by decide)
    show mRes _ _ (eb (fldS (F, n, A, T) (¬ (nI (U2 F hd) &&& (512 : Int32)) = 0) (¬ (nI (U2 F hd) &&& (16 : Int32)) = 0) fa) _) _ σ2 ((m_checkFields fu σ2).bind _)
    have R3 := m_checkFields_ok (fin := ¬ (nI (U2 F hd) &&& (16 : Int32)) = 0) (fl := U2 F hd) (p := fa) (q := ma) g hfu p2 K2 i58 ((A2.1 25 (by decide)).trans y25) ((A2.1 55 (by decide)).trans i55) (by exact hmf3) hmf
    have R3' := R3.mo (L' := ckL9) (A' := ckA9) (Q' := fun Mf σ' => (σ'.1 25 = nI (U2 F fa) ∧ ∀ j, j < U2 F fa → mFd (F, n, A, T) N1 S1 j (Mf j) σ') ∧ mfr fdL fdA σ2 σ') (by decide +kernel) (by decide +kernel) (fun a σ' e w f => by
      refine ⟨?_, ?_⟩
      · have w1 := w.1
        have w2 := w.2
        refine ⟨?_, ?_⟩
        · exact w1
        · exact w2
      · exact f)
    refine mRes.bnd R3' ?_
    rintro Mf σ3 - ⟨⟨i25, fFd⟩, A3⟩ -
    have p3 := p2.fr A3 (by decide) (by decide)
    have K3 := K2.fr A3 (by decide) (by decide)
    have i58' := (A3.1 58 (by decide)).trans i58
    show mRes _ _ (eb (mthS (F, n, A, T) (¬ (nI (U2 F hd) &&& (512 : Int32)) = 0) (¬ (nI (U2 F hd) &&& (16 : Int32)) = 0) ma) _) _ σ3 ((m_checkMethods fu σ3).bind _)
    have R4 := m_checkMethods_ok (fin := ¬ (nI (U2 F hd) &&& (16 : Int32)) = 0) (fl := U2 F hd) (p := ma) (q := aa) g hfu p3 K3 i58' ((A3.1 26 (by decide)).trans ((A2.1 26 (by decide)).trans y26)) ((A3.1 56 (by decide)).trans ((A2.1 56 (by decide)).trans i56)) (by exact hmm3) hmm
    have R4' := R4.mo (L' := ckL9) (A' := ckA9) (Q' := fun Mm σ' => (σ'.1 26 = nI (U2 F ma) ∧ ∀ j, j < U2 F ma → mMt (F, n, A, T) N1 S1 j (Mm j) σ') ∧ mfr mtL mtA σ3 σ') (by decide +kernel) (by decide +kernel) (fun a σ' e w f => by
      refine ⟨?_, ?_⟩
      · have w1 := w.1
        have w2 := w.2
        refine ⟨?_, ?_⟩
        · exact w1
        · exact w2
      · exact f)
    refine mRes.bnd R4' ?_
    rintro Mm σ4 - ⟨⟨i26, fMt⟩, A4⟩ -
    have p4 := p3.fr A4 (by decide) (by decide)
    have K4 := K3.fr A4 (by decide) (by decide)
    have j58 := (A4.1 58 (by decide)).trans i58'
    have j57 : σ4.1 57 = nI aa := (A4.1 57 (by decide)).trans ((A3.1 57 (by decide)).trans ((A2.1 57 (by decide)).trans i57))
    have V4 : mV3 F (fun _ => 0) σ4 := by
      obtain ⟨v1, v2, v3, v4, v5, v6⟩ := V1
      rw [if_pos rfl] at v6
      have tr : ∀ k, k ∉ mtL → k ∉ fdL → k ∉ [47, 48, 58, 59, 60, 61] → σ4.1 k = σ1.1 k := fun k a b c => (A4.1 k a).trans ((A3.1 k b).trans (A2.1 k c))
      refine ⟨(tr 66 (by decide) (by decide) (by decide)).trans v1, (tr 65 (by decide) (by decide) (by decide)).trans v2, (tr 68 (by decide) (by decide) (by decide)).trans v3, (tr 69 (by decide) (by decide) (by decide)).trans v4, (tr 72 (by decide) (by decide) (by decide)).trans v5, ?_⟩
      rw [if_pos rfl]
      exact ⟨(tr 70 (by decide) (by decide) (by decide)).trans v6.1, (tr 71 (by decide) (by decide) (by decide)).trans v6.2⟩
    show mRes _ _ (eb (rstS (F, n, A, T) (¬ (nI (U2 F hd) &&& (16 : Int32)) = 0) (U2 F hd) aa) _) _ σ4 ((m_checkAttributes fu σ4 (σ4.1 57) (4 : Int32) (0 : Int32)).bind _)
    have R5 := m_att_ok (fu := fu) (a := fun _ => 0) (x := 0) (p := aa) (q := n) g hfu (by omega) (mStp3 (np := 0) (d := []) (fl := U2 F hd) (σ0 := σ4) g hfu j58) p4 K4 ⟨V4, ⟨by decide, by decide⟩, mfr.rf⟩ (by exact hma3) hma2
    rw [j57]
    unfold rstS
    revert R5
    show mCA _ _ (attsS (F, n, A, T) 3 (¬ (nI (U2 F hd) &&& (16 : Int32)) = 0) (U2 F hd) [] 0 (U2 F aa) (aa + 2) 0 (fun _ => 0)) _ _ _ (m_checkAttributes fu σ4 (nI aa) (4 : Int32) (0 : Int32)) → mRes _ _ (eb (eb (attsS (F, n, A, T) 3 (¬ (nI (U2 F hd) &&& (16 : Int32)) = 0) (U2 F hd) [] 0 (U2 F aa) (aa + 2) 0 (fun _ => 0)) _) _) _ _ _
    cases attsS (F, n, A, T) 3 (¬ (nI (U2 F hd) &&& (16 : Int32)) = 0) (U2 F hd) [] 0 (U2 F aa) (aa + 2) 0 (fun _ => 0) with
    | error er =>
      rintro ⟨σ5, a1, a2, a3, a4⟩
      refine ⟨σ5, ?_, a2, a3, a4.mo (by decide +kernel) (by decide +kernel)⟩
      rw [a1, Option.bind_some, if_neg (show ¬ (0 : Int32) ≤ ((-1 : Int32), σ5).1 from (by decide : ¬ (0 : Int32) ≤ -1))]
    | ok a =>
      rintro ⟨σ5, a1, ⟨s', b1, -, b2⟩, -⟩
      rw [a1, Option.bind_some, if_pos (show (0 : Int32) ≤ (nI n, σ5).1 from nI_pos' (by omega)), eb_ok]
      have p5 := p4.fr b2 (by decide) (by decide)
      refine mRes.fr (b2.mo (by decide +kernel) (by decide +kernel)) ?_
      have h71 : σ5.1 71 = nI (nbS F a) ∧ nbS F a < 65536 := by
        have := b1.2.2.2.2.2
        unfold nbS
        split at this
        · rename_i z
          rw [if_pos z]
          exact ⟨this.2, by omega⟩
        · rename_i z
          rw [if_neg z]
          exact ⟨this.2, U2_lt _ _⟩
      have c1 := g.2.2.2.2.2.2.2.2
      have cl := ctP_lt (F, n, A, T)
      rw [show m_checkFile_94L fu fu (nI n, σ5).2 (1 : Int32) = _ from m_rs_loop p5 g h71.1 h71.2 (ctP (F, n, A, T) - 1) 1 fu (by omega) (by omega)]
      cases rsS (F, n, A, T) (nbS F a) (ctP (F, n, A, T) - 1) 1 with
      | error er => exact mRes.er (r := er.1) (p := er.2) (by decide) (by decide)
      | ok u =>
        refine ⟨σ5, rfl, ⟨hFO', N1, S1, p5, ⟨?_, (b2.1 58 (by decide)).trans j58, ?_, ?_, (b2.1 26 (by decide)).trans i26⟩, fun j hj => ?_, fun j hj => ?_, b1⟩, mfr.rf⟩
        · exact (b2.1 54 (by decide)).trans ((A4.1 54 (by decide)).trans ((A3.1 54 (by decide)).trans ((A2.1 54 (by decide)).trans i54)))
        · exact (b2.1 61 (by decide)).trans ((A4.1 61 (by decide)).trans ((A3.1 61 (by decide)).trans i61))
        · exact (b2.1 25 (by decide)).trans ((A4.1 25 (by decide)).trans i25)
        · refine (fFd j hj).fr (fun k hk => ?_)
          rw [b2.2 k (by simp), A4.2 k (fun w => absurd hk (by revert w; revert k; decide))]
        · refine (fMt j hj).fr (fun k hk => ?_)
          rw [b2.2 k (by simp)]
end MChk
