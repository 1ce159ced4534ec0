/-! the twin's readFile -/
section MFile
set_option maxRecDepth 100000
theorem m_tail {F : Nat → Int32} {n fu maj cnt : Nat} {A : Nat → Nat} {T : Nat → List Nat} {hd : Nat} (hn : n ≤ 20000) (hfu : 65536 < fu) (hmaj : maj = U2 F 6) (hcnt : cnt = U2 F 8) : ∀ (k f p i : Nat) (σ : SM), k < f → i + k < 2 ^ 31 → p ≤ n → hd ≤ p → mPI F n maj cnt cnt p A T σ → σ.1 54 = nI hd →
    mRes mFL mFA (eb (skI n k p) fun q1 => eb (membS F n q1) fun q2 => eb (membS F n q2) fun q3 => eb (attrS F n q3) fun q4 => if q4 = n then .ok (A, T, hd, q1, q2, q3) else .error (8, q4)) (mFQ F n) σ (m_readFile_237L fu f σ (nI (i + k)) (nI i)) := by
  subst hmaj hcnt
  intro k
  induction k with
  | zero =>
    intro f p i σ hf hi hp hhd hI h54
    obtain ⟨f, rfl⟩ : ∃ z9, f = z9 + 1 := ⟨f - 1, by omega⟩
    show mRes _ _ (eb (membS F n p) _) _ σ (m_readFile_237 fu (m_readFile_237L fu f) σ (nI (i + 0)) (nI i))
    unfold m_readFile_237
    rw [if_pos (nI_le (by omega) (by omega)), nx_eq, hI.2.1]
    refine mRes.fr (mfr.sf (k := 55) (v := nI p) (by decide)) ?_
    generalize hs1 : sf σ 55 (nI p) = σ1
    have f1 : mfr [55] [] σ σ1 := by rw [← hs1]; exact mfr.sf (by decide)
    have v1 : σ1.1 55 = nI p := by rw [← hs1, sf_eq]
    have I1 := hI.fr f1 (by decide)
    refine ((m_memb_ok (by omega) hfu I1.1 I1.2.1 hp).mo (L' := mFL) (A' := mFA) (Q' := fun q σ' => (σ'.1 50 = nI q ∧ q ≤ n) ∧ mfr [47, 48, 50] [] σ1 σ') (by decide) (by decide) (fun a σ' _ q r => ⟨q, r⟩)).bnd ?_
    rintro q1 σ2 e2 ⟨⟨h2, h2n⟩, f2⟩ -
    rw [nx_eq, h2]
    refine mRes.fr (mfr.sf (k := 56) (v := nI q1) (by decide)) ?_
    generalize hs3 : sf σ2 56 (nI q1) = σ3
    have f3 : mfr [47, 48, 50, 56] [] σ1 σ3 := by rw [← hs3]; exact (f2.mo (by decide) (by decide)).tr (mfr.sf (by decide))
    have v3 : σ3.1 56 = nI q1 := by rw [← hs3, sf_eq]
    have p3 : σ3.1 50 = nI q1 := by rw [← hs3, sf_ne (by decide), h2]
    have F3 := f3.mF I1.1 (by decide) (by decide) (by decide)
    refine ((m_memb_ok (by omega) hfu F3 p3 h2n).mo (L' := mFL) (A' := mFA) (Q' := fun q σ' => (σ'.1 50 = nI q ∧ q ≤ n) ∧ mfr [47, 48, 50] [] σ3 σ') (by decide) (by decide) (fun a σ' _ q r => ⟨q, r⟩)).bnd ?_
    rintro q2 σ4 e4 ⟨⟨h4, h4n⟩, f4⟩ -
    rw [nx_eq, h4]
    refine mRes.fr (mfr.sf (k := 57) (v := nI q2) (by decide)) ?_
    generalize hs5 : sf σ4 57 (nI q2) = σ5
    have f5 : mfr [47, 48, 50, 57] [] σ3 σ5 := by rw [← hs5]; exact (f4.mo (by decide) (by decide)).tr (mfr.sf (by decide))
    have v5 : σ5.1 57 = nI q2 := by rw [← hs5, sf_eq]
    have p5 : σ5.1 50 = nI q2 := by rw [← hs5, sf_ne (by decide), h4]
    have F5 := f5.mF F3 (by decide) (by decide) (by decide)
    refine ((m_attrs_ok (by omega) hfu F5 p5 h4n).mo (L' := mFL) (A' := mFA) (Q' := fun q σ' => (σ'.1 50 = nI q ∧ q ≤ n) ∧ mfr [47, 48, 50] [] σ5 σ') (by decide) (by decide) (fun a σ' _ q r => ⟨q, r⟩)).bnd ?_
    rintro q3 σ6 e6 ⟨⟨h6, h6n⟩, f6⟩ -
    have f16 : mfr [47, 48, 50, 56, 57] [] σ1 σ6 := (f3.mo (by decide) (by decide)).tr ((f5.mo (by decide) (by decide)).tr (f6.mo (by decide) (by decide)))
    have F6 := f6.mF F5 (by decide) (by decide) (by decide)
    rw [h6, F6.2.1]
    by_cases hq : q3 = n
    · rw [if_pos hq, if_pos (by rw [hq])]
      unfold m_readFile_345
      refine mRes.ok ⟨I1.fr50 f16 (by rw [h6, hq]) hp (by decide), ?_, ?_, ?_, ?_⟩
      · rw [f16.1 54 (by decide), f1.1 54 (by decide)]; exact h54
      · rw [f16.1 55 (by decide)]; exact v1
      · rw [f6.1 56 (by decide), f5.1 56 (by decide)]; exact v3
      · rw [f6.1 57 (by decide)]; exact v5
    · rw [if_neg hq, if_neg (fun z => hq ((nI_eq (by omega) (by omega)).mp z)), show (8 : Int32) = nI 8 from rfl, m_wrong_ok, Option.bind_some, if_pos rfl]
      exact mRes.er (by decide) (by decide)
  | succ k ih =>
    intro f p i σ hf hi hp hhd hI h54
    obtain ⟨f, rfl⟩ : ∃ z9, f = z9 + 1 := ⟨f - 1, by omega⟩
    show mRes _ _ (eb (eb (itS n p 2) fun _ => skI n k (p + 2)) _) _ σ (m_readFile_237 fu (m_readFile_237L fu f) σ (nI (i + (k + 1))) (nI i))
    unfold m_readFile_237
    rw [if_neg (nI_ge (by omega) (by omega)), eb_eb]
    refine m_adv (k := 2) (j := 2) hI.1 hI.2.1 (by omega) (by omega) (by decide) (by decide) (by decide) fun e => ?_
    rw [nx_eq, nI_1]
    have f1 : mfr [50] [] σ (sf σ 50 (nI (p + 2))) := mfr.sf (by decide)
    have := ih f (p + 2) (i + 1) (sf σ 50 (nI (p + 2))) (by omega) (by omega) (by omega) (by omega) (hI.fr50 f1 sf_eq (by omega) (by decide)) ((sf_ne (by decide)).trans h54)
    rw [show i + 1 + k = i + (k + 1) by omega] at this
    exact this
theorem m_readFile_ok {F : Nat → Int32} {n fu : Nat} {σ : SM} {N : Nat} {S : Nat → List Nat} (hn : n ≤ 20000) (hfu : 65536 < fu) (hF : mF F n σ) (h20 : σ.1 20 = 0) (hS : mSI N S σ) (hN : N ≤ 3) (hst : sta S N ≤ 40) : mRes mFL mFA (fileS F n) (mFQ F n) σ (m_readFile fu σ) := by
  unfold m_readFile m_readFile_0 fileS
  rw [nx_eq]
  refine mRes.fr (mfr.sf (k := 50) (v := 0) (by decide)) ?_
  have f1 : mfr [50] [] σ (sf σ 50 0) := mfr.sf (by decide)
  refine (m_item_ok (k := 4) (p := 0) (f1.mF hF (by decide) (by decide) (by decide)) sf_eq (by omega) (by omega) (by decide) (by decide)).bnd ?_
  rintro _ σ1 e1 rfl -
  have e1 := itS_ok e1
  rw [show m_u4 (sf σ 50 0) 0 = some (lN (U4 F 0)) from m_u4_ok (p := 0) (f1.mF hF (by decide) (by decide) (by decide)) (by omega), Option.bind_some]
  have hu4 := U4_lt F 0
  have hcmp : lg_cmp (lN (U4 F 0)) (3405691582 : Int64) = 0 ↔ U4 F 0 = 3405691582 := cmp_eq (b := 3405691582) (by omega) (by omega)
  by_cases hm : U4 F 0 = 3405691582
  case neg =>
    rw [if_pos hm, if_neg (fun z => hm (hcmp.mp z)), show (2 : Int32) = nI 2 from rfl, show (0 : Int32) = nI 0 from rfl, m_wr_ok]
    exact mRes.er (by decide) (by decide)
  rw [if_neg (fun z => z hm), if_pos (hcmp.mpr hm), nx_eq]
  refine mRes.fr (mfr.sf (k := 50) (v := nI 4) (by decide)) ?_
  have f2 : mfr [50] [] σ (sf (sf σ 50 0) 50 (nI 4)) := f1.tr (mfr.sf (by decide))
  refine m_adv0 (k := 2) (f2.mF hF (by decide) (by decide) (by decide)) sf_eq (by omega) (by omega) (by decide) (by decide) (by decide) fun e2 => ?_
  have f3 : mfr [50] [] σ (sf (sf (sf σ 50 0) 50 (nI 4)) 50 (nI 6)) := f2.tr (mfr.sf (by decide))
  have F3 := f3.mF hF (by decide) (by decide) (by decide)
  refine (m_item_ok (k := 2) F3 (p := 6) sf_eq (by omega) (by omega) (by decide) (by decide)).bnd ?_
  rintro _ σ4 e3 rfl -
  have e3 := itS_ok e3
  rw [show m_u2 (sf (sf (sf σ 50 0) 50 (nI 4)) 50 (nI 6)) 6 = some (nI (U2 F 6)) from m_u2_ok (p := 6) F3 (by omega), Option.bind_some, nx_eq]
  refine mRes.fr (mfr.sf (k := 53) (v := nI (U2 F 6)) (by decide)) ?_
  generalize hs5 : sf (sf (sf (sf σ 50 0) 50 (nI 4)) 50 (nI 6)) 53 (nI (U2 F 6)) = σ5
  have f5 : mfr [50, 53] [] σ σ5 := by rw [← hs5]; exact (f3.mo (by decide) (by decide)).tr (mfr.sf (by decide))
  have v5 : σ5.1 53 = nI (U2 F 6) := by rw [← hs5, sf_eq]
  have F5 := f5.mF hF (by decide) (by decide) (by decide)
  have hmj := U2_lt F 6
  have hmi := U2_lt F 4
  have w116 : mRes mFL mFA (.error (3, 4) : FE ((Nat → Nat) × (Nat → List Nat) × Nat × Nat × Nat × Nat)) (mFQ F n) σ5 (m_readFile_116 fu σ5) := by
    unfold m_readFile_116
    rw [show (3 : Int32) = nI 3 from rfl, show (4 : Int32) = nI 4 from rfl, m_wr_ok]
    exact mRes.er (by decide) (by decide)
  rw [v5, show m_u2 σ5 4 = some (nI (U2 F 4)) from m_u2_ok (p := 4) F5 (by omega), Option.bind_some]
  simp (disch := (first | omega | decide)) only [nI_eqL, nI_leL, nI_ltL, nI_Lle, nI_Llt, nI_eq, nI_leI, nI_ltI]
  by_cases hv : U2 F 6 < 45 ∨ 61 < U2 F 6 ∨ (56 ≤ U2 F 6 ∧ U2 F 4 ≠ 0)
  · rw [if_pos hv]
    split
    · exact w116
    · split
      · exact w116
      · rw [if_neg (by omega), if_neg (by omega)]
        exact w116
  rw [if_neg hv]
  have e123 : (if U2 F 6 < 45 then m_readFile_116 fu σ5 else if 61 < U2 F 6 then m_readFile_116 fu σ5 else if U2 F 6 < 56 then m_readFile_123 fu σ5 else if U2 F 4 = 0 then m_readFile_123 fu σ5 else m_readFile_116 fu σ5) = m_readFile_123 fu σ5 := by
    rw [if_neg (by omega), if_neg (by omega)]
    split
    · rfl
    · rw [if_pos (by omega)]
  rw [e123]
  unfold m_readFile_123
  rw [nx_eq]
  refine mRes.fr (mfr.sf (k := 50) (v := nI 8) (by decide)) ?_
  have f6 : mfr [50, 53] [] σ (sf σ5 50 (nI 8)) := f5.tr (mfr.sf (by decide))
  have F6 := f6.mF hF (by decide) (by decide) (by decide)
  refine (m_item_ok (k := 2) F6 (p := 8) sf_eq (by omega) (by omega) (by decide) (by decide)).bnd ?_
  rintro _ σ7 e7 rfl -
  have e7 := itS_ok e7
  have hcn := U2_lt F 8
  rw [show m_u2 (sf σ5 50 (nI 8)) 8 = some (nI (U2 F 8)) from m_u2_ok (p := 8) F6 (by omega), Option.bind_some, nx_eq]
  refine mRes.fr (mfr.sf (k := 52) (v := nI (U2 F 8)) (by decide)) ?_
  rw [sf_eq]
  by_cases hc : U2 F 8 = 0
  · rw [if_pos hc, if_pos (by rw [hc]; rfl), show (4 : Int32) = nI 4 from rfl, show (8 : Int32) = nI 8 from rfl, m_wr_ok]
    exact mRes.er (by decide) (by decide)
  rw [if_neg hc, if_neg (nI_ne0 (by omega) (by omega)), nx_eq]
  refine mRes.fr (mfr.sf (k := 50) (v := nI 10) (by decide)) ?_
  show mRes _ _ _ _ (sf (sf (sf σ5 50 (nI 8)) 52 (nI (U2 F 8))) 50 (nI 10)) ((m_readPool fu (sf (sf (sf σ5 50 (nI 8)) 52 (nI (U2 F 8))) 50 (nI 10))).bind _)
  generalize hs8 : sf (sf (sf σ5 50 (nI 8)) 52 (nI (U2 F 8))) 50 (nI 10) = σ8
  have f8 : mfr [50, 52, 53] [] σ σ8 := by rw [← hs8]; exact (f6.mo (by decide) (by decide)).tr ((mfr.sf (by decide)).tr (mfr.sf (by decide)))
  have v8 : σ8.1 50 = nI 10 := by rw [← hs8, sf_eq]
  have v82 : σ8.1 52 = nI (U2 F 8) := by rw [← hs8, sf_ne (by decide), sf_eq]
  have v83 : σ8.1 53 = nI (U2 F 6) := by rw [← hs8, sf_ne (by decide), sf_ne (by decide), sf_ne (by decide), v5]
  refine ((m_readPool_ok hn hmj hcn (by omega) hfu (by omega) (f8.mF hF (by decide) (by decide) (by decide)) v8 ((f8.1 20 (by decide)).trans h20) v82 v83 (hS.fr f8 (by decide) (by decide)) hN hst).mo (L' := mFL) (A' := mFA) (by decide) (by decide) (fun _ _ _ q _ => q)).bnd ?_
  rintro ⟨hd, A, T⟩ σ9 e9 ⟨I9, -⟩ -
  obtain ⟨r1, r2, r3, r4, r5, r6⟩ := rpS_ok _ _ _ _ _ e9 (by omega) (by omega) (fun _ _ => rfl) (fun i z => absurd rfl z) (by omega) (by omega)
  have I9 : mPI F n (U2 F 6) (U2 F 8) (U2 F 8) hd A T σ9 := I9
  rw [nx_eq, I9.2.1]
  refine mRes.fr (mfr.sf (k := 54) (v := nI hd) (by decide)) ?_
  generalize hs10 : sf σ9 54 (nI hd) = σ10
  have f10 : mfr [54] [] σ9 σ10 := by rw [← hs10]; exact mfr.sf (by decide)
  have v10 : σ10.1 54 = nI hd := by rw [← hs10, sf_eq]
  have I10 := I9.fr f10 (by decide)
  obtain ⟨h, hfu2⟩ : ∃ h, fu = h + 1 + 1 + 1 + 1 + 1 := ⟨fu - 5, by omega⟩
  have l1 : ∀ (m : Nat) (σ : SM) (x : Int32), m_readFile_191L fu (m + 1) σ x = m_readFile_191 fu (m_readFile_191L fu m) σ x := fun _ _ _ => rfl
  have step : ∀ {α : Type} {f : Unit → FE α} {Q : α → SM → Prop} (m p : Nat) (x : Int32) (σ' : SM), ¬ (4 : Int32) ≤ x → p ≤ n → mPI F n (U2 F 6) (U2 F 8) (U2 F 8) p A T σ' → σ'.1 54 = nI hd → (p + 2 ≤ n → mPI F n (U2 F 6) (U2 F 8) (U2 F 8) (p + 2) A T (sf σ' 50 (nI (p + 2))) → (sf σ' 50 (nI (p + 2))).1 54 = nI hd → mRes mFL mFA (f ()) Q (sf σ' 50 (nI (p + 2))) (m_readFile_191L fu m (sf σ' 50 (nI (p + 2))) (x + 1))) → mRes mFL mFA (eb (itS n p 2) f) Q σ' (m_readFile_191L fu (m + 1) σ' x) := by
    intro α f Q m p x σ' hx hp hI h54 kk
    rw [l1]
    unfold m_readFile_191
    rw [if_neg hx]
    refine m_adv (k := 2) (j := 2) hI.1 hI.2.1 (by omega) (by omega) (by decide) (by decide) (by decide) fun e => ?_
    exact kk e (hI.fr50 (mfr.sf (L := [50]) (A := []) (by decide)) sf_eq (by omega) (by decide)) ((sf_ne (by decide)).trans h54)
  rw [show m_readFile_191L fu fu σ10 0 = m_readFile_191L fu (h + 1 + 1 + 1 + 1 + 1) σ10 0 from congrArg (fun m => m_readFile_191L fu m σ10 0) hfu2]
  refine step (h + 1 + 1 + 1 + 1) hd 0 σ10 (by decide) (by omega) I10 v10 fun e11 I11 v11 => ?_
  refine step (h + 1 + 1 + 1) (hd + 2) (0 + 1) _ (by decide) (by omega) I11 v11 fun e12 I12 v12 => ?_
  refine step (h + 1 + 1) (hd + 2 + 2) (0 + 1 + 1) _ (by decide) (by omega) I12 v12 fun e13 I13 v13 => ?_
  refine step (h + 1) (hd + 2 + 2 + 2) (0 + 1 + 1 + 1) _ (by decide) (by omega) I13 v13 fun e14 I14 v14 => ?_
  rw [l1]
  unfold m_readFile_191
  rw [if_pos (show (4 : Int32) ≤ 0 + 1 + 1 + 1 + 1 by decide), I14.2.1, show nI (hd + 2 + 2 + 2 + 2) - 2 = nI (hd + 6) from pk_sub (b := 2) (by omega), m_u2_ok I14.1 (by omega), Option.bind_some]
  have hu := U2_lt F (hd + 6)
  have := m_tail (F := F) (n := n) (fu := fu) (A := A) (T := T) (hd := hd) hn hfu rfl rfl (U2 F (hd + 6)) fu (hd + 8) 0 _ (by omega) (by omega) (by omega) (by omega) I14 v14
  rw [Nat.zero_add] at this
  exact this
end MFile
