/-! a class's attributes: the twin -/
section MAtt3
set_option maxRecDepth 100000
variable {P : PD} {N fu : Nat} {S : Nat → List Nat} {σ : SM}
abbrev clL : List Nat := [47, 48, 65, 66, 67, 68, 69, 70, 71, 72]
def mV3 (F : Nat → Int32) (a : Nat → Nat) (σ : SM) : Prop := σ.1 66 = nI (a 0) ∧ σ.1 65 = nI (a 4) ∧ σ.1 68 = nI (a 5) ∧ σ.1 69 = nI (a 6) ∧ σ.1 72 = nI (a 7) - 1 ∧ (if a 8 = 0 then σ.1 70 = -1 ∧ σ.1 71 = 0 else σ.1 70 = nI (a 8) ∧ σ.1 71 = nI (U2 F (a 8)))
def mI3 (F : Nat → Int32) (σ0 : SM) (a : Nat → Nat) (s : Nat) (σ : SM) : Prop := mV3 F a σ ∧ ((s.testBit 6 = true ↔ ¬ a 9 = 0) ∧ (s.testBit 7 = true ↔ ¬ a 10 = 0)) ∧ mfr clL [] σ0 σ
theorem mV3.ot {F : Nat → Int32} {a a' : Nat → Nat} {σ σ' : SM} {k : Nat} {v : Int32} (h : mV3 F a σ) (e : σ' = sf σ k v)
    (h0 : (k ≠ 66 ∧ a' 0 = a 0) ∨ (k = 66 ∧ v = nI (a' 0))) (h4 : (k ≠ 65 ∧ a' 4 = a 4) ∨ (k = 65 ∧ v = nI (a' 4))) (h5 : (k ≠ 68 ∧ a' 5 = a 5) ∨ (k = 68 ∧ v = nI (a' 5))) (h6 : (k ≠ 69 ∧ a' 6 = a 6) ∨ (k = 69 ∧ v = nI (a' 6))) (h7 : (k ≠ 72 ∧ a' 7 = a 7) ∨ (k = 72 ∧ v = nI (a' 7) - 1)) (h8 : k ≠ 70 ∧ k ≠ 71 ∧ a' 8 = a 8) : mV3 F a' σ' := by
  obtain ⟨b0, b4, b5, b6, b7, b8⟩ := h
  subst e
  have one : ∀ {j : Nat} {w w' : Int32}, σ.1 j = w → ((k ≠ j ∧ w' = w) ∨ (k = j ∧ v = w')) → (sf σ k v).1 j = w' := fun {j w w'} q z => by
    rcases z with z | z
    · rw [sf_ne (fun y => z.1 y.symm), q, z.2]
    · rw [← z.1, sf_eq, z.2]
  refine ⟨one b0 (h0.imp (fun z => ⟨z.1, by rw [z.2]⟩) id), one b4 (h4.imp (fun z => ⟨z.1, by rw [z.2]⟩) id), one b5 (h5.imp (fun z => ⟨z.1, by rw [z.2]⟩) id), one b6 (h6.imp (fun z => ⟨z.1, by rw [z.2]⟩) id), one b7 (h7.imp (fun z => ⟨z.1, by rw [z.2]⟩) id), ?_⟩
  rw [h8.2.2, sf_ne (fun y => h8.1 y.symm), sf_ne (fun y => h8.2.1 y.symm)]
  exact b8
theorem mStp3 {fl np : Nat} {d : List Nat} {σ0 : SM} (g : PG P) (hfu : 131072 < fu) (h58 : σ0.1 58 = nI fl) : mStp P N S fu 3 0 (¬ (nI fl &&& (16 : Int32)) = 0) fl d np clL [] (mI3 P.1 σ0) := by
  have hn := g.1
  refine ⟨⟨by decide, by decide, fun _ _ f h => h.fr f (by decide) (by decide), fun _ _ f h => h.fr f (by decide) (by decide)⟩, ?_, ?_⟩
  · rintro a s σ ⟨a1, a2, a3⟩
    have f1 : mfr clL [] σ (sf σ 66 (nI (a 0 + 1))) := mfr.sf (by decide)
    refine ⟨sf σ 66 (nI (a 0 + 1)), f1, ⟨a1.ot rfl (Or.inr ⟨rfl, rfl⟩) (Or.inl ⟨by decide, rfl⟩) (Or.inl ⟨by decide, rfl⟩) (Or.inl ⟨by decide, rfl⟩) (Or.inl ⟨by decide, rfl⟩) ⟨by decide, by decide, rfl⟩, a2, a3.tr f1⟩, fun k18 x4 x5 x6 x7 x8 w hw => ?_⟩
    unfold kEnd m_checkAttributes_160 m_checkAttributes_175
    rw [if_neg hw, if_neg (show ¬ nI (3 + 1) = (1 : Int32) by decide), if_neg (show ¬ nI (3 + 1) = (2 : Int32) by decide), if_pos (show nI (3 + 1) = (4 : Int32) from rfl), nx_eq, a1.1, xadd1]
  · rintro a s σ w pl p len hs w1 w10 ⟨t, hw⟩ h hK ⟨a1, ⟨a6, a7⟩, a3⟩ hp1 hp hb
    have w5 : 5 ≤ w := by
      have := (knS_le (mjP P) 3 t).2.2.2.2 rfl
      omega
    have e58 : σ.1 58 = nI fl := by rw [a3.1 58 (by decide)]; exact h58
    have hu := U2_lt P.1 p
    have tl := tgP_lt P (U2 P.1 p)
    -- bits that stay
    have st : ∀ a' : Nat → Nat, w ≠ 7 → w ≠ 8 → a' 9 = a 9 → a' 10 = a 10 → (((s ||| 2 ^ (w - 1)).testBit 6 = true ↔ ¬ a' 9 = 0) ∧ ((s ||| 2 ^ (w - 1)).testBit 7 = true ↔ ¬ a' 10 = 0)) := fun a' n7 n8 z9 z10 => by
      rw [tb_ne (by omega), tb_ne (by omega), z9, z10]
      exact ⟨a6, a7⟩
    unfold atS
    rw [if_neg (by omega), if_neg (by omega), if_neg (by omega)]
    by_cases v5 : w = 5
    · subst v5
      rw [if_pos rfl]
      have e : m_attribute fu σ (nI (5 - 1)) (nI pl) (nI p) (nI (p + len)) (nI 0) (nI s) = (if (nI (p + len) - nI p) < (2 : Int32) then some ((30 : Int32), σ) else (m_u2 σ (nI p)).bind fun r22 => if (nI (p + len) - nI p) = ((2 : Int32) + (nI 8 * r22)) then m_attribute_431L fu fu σ (nI p) (0 : Int32) else some ((30 : Int32), σ)) := rfl
      rw [e, m_tab h.1.1 hn (by omega) hp]
      by_cases ht : tabS P.1 p len 8
      case neg =>
        rw [if_neg ht, if_neg ht]
        exact mAt.er (by omega)
      have := ht.2
      rw [if_pos ht, if_pos ht, show m_attribute_431L fu fu σ (nI p) (0 : Int32) = _ from m_a431 h g (by omega) (U2 P.1 p) 0 fu (by omega) (by omega)]
      by_cases hc : innP P p
      · rw [ci_t hc, ci_t (P := ∀ i, 0 ≤ i → i < U2 P.1 p → inP P p i) hc]
        have f1 : mfr clL [] σ (sf σ 65 (nI (U2 P.1 p))) := mfr.sf (by decide)
        exact ⟨_, rfl, ⟨a1.ot rfl (Or.inl ⟨by decide, rfl⟩) (Or.inr ⟨rfl, rfl⟩) (Or.inl ⟨by decide, rfl⟩) (Or.inl ⟨by decide, rfl⟩) (Or.inl ⟨by decide, rfl⟩) ⟨by decide, by decide, rfl⟩, st _ (by omega) (by omega) rfl rfl, a3.tr f1⟩, f1⟩
      · rw [ci_f hc, ci_f (P := ∀ i, 0 ≤ i → i < U2 P.1 p → inP P p i) hc]
        exact mAt.er (by omega)
    rw [if_neg v5]
    by_cases v6 : w = 6
    · subst v6
      rw [if_pos rfl]
      have e : m_attribute fu σ (nI (6 - 1)) (nI pl) (nI p) (nI (p + len)) (nI 0) (nI s) = ((m_bootstraps fu σ (nI p) (nI (p + len))).bind fun r => some (r.1, r.2)) := rfl
      rw [e]
      refine mAt.self (mAt.map ((m_bootstraps_ok (pl := pl) h g (by omega) hp).mo (L' := clL) (A' := []) (Q' := fun _ σ' => mI3 P.1 σ0 (uA a 8 p) (s ||| 2 ^ (6 - 1)) σ') (by decide) (by decide) (fun _ σ' _ w f => ?_)) (fun _ _ _ w _ => w))
      subst w
      refine ⟨⟨?_, ?_, ?_, ?_, ?_, ?_⟩, st _ (by omega) (by omega) rfl rfl, a3.tr (f.mo (by decide) (by decide))⟩
      · rw [sf_ne (by decide), sf_ne (by decide), a1.1]; rfl
      · rw [sf_ne (by decide), sf_ne (by decide), a1.2.1]; rfl
      · rw [sf_ne (by decide), sf_ne (by decide), a1.2.2.1]; rfl
      · rw [sf_ne (by decide), sf_ne (by decide), a1.2.2.2.1]; rfl
      · rw [sf_ne (by decide), sf_ne (by decide), a1.2.2.2.2.1]; rfl
      · show if p = 0 then _ else (sf (sf σ 70 (nI p)) 71 (nI (U2 P.1 p))).1 70 = nI p ∧ (sf (sf σ 70 (nI p)) 71 (nI (U2 P.1 p))).1 71 = nI (U2 P.1 p)
        rw [if_neg (by omega), sf_ne (by decide), sf_eq, sf_eq]
        exact ⟨rfl, rfl⟩
    rw [if_neg v6]
    by_cases v7 : w = 7
    · subst v7
      rw [if_pos rfl]
      have e : m_attribute fu σ (nI (7 - 1)) (nI pl) (nI p) (nI (p + len)) (nI 0) (nI s) = (if (nI (p + len) - nI p) = (2 : Int32) then (m_u2 σ (nI p)).bind fun r38 => (m_tag σ r38).bind fun r40 => if r40 = (7 : Int32) then if ((nI s >>> ((7 : Int32) &&& 31)) &&& (1 : Int32)) = (1 : Int32) then some ((34 : Int32), σ) else (m_u2 σ (nI p)).bind fun r44 => nx (sf σ 67 r44) fun s46 => some ((0 : Int32), s46) else some ((34 : Int32), σ) else some ((30 : Int32), σ)) := rfl
      rw [e, pk_sub (by omega), show p + len - p = len by omega]
      by_cases hl : len = 2
      case neg =>
        rw [if_neg (nL (k := 2) (by omega) (by omega) hl), if_neg hl]
        exact mAt.er (by omega)
      rw [if_pos (show nI len = (2 : Int32) by rw [hl]; rfl), if_pos hl, m_u2_ok h.1.1 (by omega), Option.bind_some, m_tag_ok h g hu, Option.bind_some]
      by_cases ht : tgP P (U2 P.1 p) = 7
      case neg =>
        rw [if_neg (nL (k := 7) (by omega) (by omega) ht), if_neg (fun z => ht z.1)]
        exact mAt.er (by omega)
      rw [if_pos (show nI (tgP P (U2 P.1 p)) = (7 : Int32) by rw [ht]; rfl)]
      by_cases hb7 : s.testBit 7 = true
      · rw [if_pos (show ((nI s >>> ((7 : Int32) &&& 31)) &&& (1 : Int32)) = (1 : Int32) from (bt1 (v := 7) (by omega) hs).mpr hb7), if_neg (fun z => (a7.mp hb7) z.2)]
        exact mAt.er (by omega)
      have a10 : a 10 = 0 := by
        by_cases z : a 10 = 0
        · exact z
        · exact absurd (a7.mpr z) hb7
      rw [if_neg (show ¬ ((nI s >>> ((7 : Int32) &&& 31)) &&& (1 : Int32)) = (1 : Int32) from fun z => hb7 ((bt1 (v := 7) (by omega) hs).mp z)), if_pos ⟨ht, a10⟩, Option.bind_some, nx_eq]
      have f1 : mfr clL [] σ (sf σ 67 (nI (U2 P.1 p))) := mfr.sf (by decide)
      refine ⟨_, rfl, ⟨a1.ot rfl (Or.inl ⟨by decide, rfl⟩) (Or.inl ⟨by decide, rfl⟩) (Or.inl ⟨by decide, rfl⟩) (Or.inl ⟨by decide, rfl⟩) (Or.inl ⟨by decide, rfl⟩) ⟨by decide, by decide, rfl⟩, ⟨?_, ?_⟩, a3.tr f1⟩, f1⟩
      · exact ⟨fun _ => (by decide : ¬ (1 : Nat) = 0), fun _ => tb_eq⟩
      · show (s ||| 2 ^ (7 - 1)).testBit 7 = true ↔ ¬ a 10 = 0
        rw [tb_ne (by decide)]
        exact a7
    rw [if_neg v7]
    by_cases v8 : w = 8
    · subst v8
      rw [if_pos rfl]
      have e : m_attribute fu σ (nI (8 - 1)) (nI pl) (nI p) (nI (p + len)) (nI 0) (nI s) = (if (nI (p + len) - nI p) < (2 : Int32) then some ((30 : Int32), σ) else (m_u2 σ (nI p)).bind fun r22 => if (nI (p + len) - nI p) = ((2 : Int32) + (nI 2 * r22)) then m_attribute_265 fu σ (nI 7) (nI p) (nI 0) (nI s) else some ((30 : Int32), σ)) := rfl
      rw [e, m_tab h.1.1 hn (by omega) hp]
      have f1 : mfr clL [] σ (sf σ 68 (nI (U2 P.1 p))) := mfr.sf (by decide)
      refine m_cls (pl := pl) (x := 0) (B := a 9 = 0) h g hfu (v := 7) (by omega) hs hp ⟨fun z => a6.mp z.2, fun z => ⟨rfl, a6.mpr z⟩⟩ (fun z9 hp2 => ⟨sf σ 68 (nI (U2 P.1 p)), ?_, ⟨a1.ot rfl (Or.inl ⟨by decide, rfl⟩) (Or.inl ⟨by decide, rfl⟩) (Or.inr ⟨rfl, rfl⟩) (Or.inl ⟨by decide, rfl⟩) (Or.inl ⟨by decide, rfl⟩) ⟨by decide, by decide, rfl⟩, ⟨?_, ?_⟩, a3.tr f1⟩, f1⟩)
      · unfold m_attribute_349 m_attribute_366 m_attribute_381
        rw [if_neg (show ¬ nI 7 = (2 : Int32) by decide), if_pos (show nI 7 = (7 : Int32) from rfl), m_u2_ok h.1.1 hp2, Option.bind_some, nx_eq, if_neg (show ¬ nI 7 = (9 : Int32) by decide)]
      · show (s ||| 2 ^ (8 - 1)).testBit 6 = true ↔ ¬ a 9 = 0
        rw [tb_ne (by decide)]
        exact a6
      · exact ⟨fun _ => (by decide : ¬ (1 : Nat) = 0), fun _ => tb_eq⟩
    rw [if_neg v8]
    by_cases v9 : w = 9
    · subst v9
      rw [if_pos rfl]
      have e : m_attribute fu σ (nI (9 - 1)) (nI pl) (nI p) (nI (p + len)) (nI 0) (nI s) = ((m_components fu σ (nI p) (nI (p + len))).bind fun r => some (r.1, r.2)) := rfl
      rw [e]
      refine mAt.self (mAt.map ((m_components_ok (pl := pl) h g hfu hp).mo (L' := clL) (A' := []) (Q' := fun _ σ' => mI3 P.1 σ0 (uA a 7 (U2 P.1 p + 1)) (s ||| 2 ^ (9 - 1)) σ') (by decide) (by decide) (fun _ σ' _ w f => ?_)) (fun _ _ _ w _ => w))
      refine ⟨a1.ot w (Or.inl ⟨by decide, rfl⟩) (Or.inl ⟨by decide, rfl⟩) (Or.inl ⟨by decide, rfl⟩) (Or.inl ⟨by decide, rfl⟩) (Or.inr ⟨rfl, ?_⟩) ⟨by decide, by decide, rfl⟩, st _ (by omega) (by omega) rfl rfl, a3.tr (f.mo (by decide) (by decide))⟩
      show nI (U2 P.1 p) = nI (U2 P.1 p + 1) - 1
      exact (pk_sub (a := U2 P.1 p + 1) (b := 1) (by omega)).symm
    rw [if_neg v9]
    obtain rfl : w = 10 := by omega
    have e : m_attribute fu σ (nI (10 - 1)) (nI pl) (nI p) (nI (p + len)) (nI 0) (nI s) = (if (nI (p + len) - nI p) < (2 : Int32) then some ((30 : Int32), σ) else (m_u2 σ (nI p)).bind fun r22 => if (nI (p + len) - nI p) = ((2 : Int32) + (nI 2 * r22)) then (if ((σ.1 58) &&& (16 : Int32)) = 0 then m_attribute_265 fu σ (nI 9) (nI p) (nI 0) (nI s) else some ((36 : Int32), σ)) else some ((30 : Int32), σ)) := rfl
    rw [e, m_tab h.1.1 hn (by omega) hp, e58]
    by_cases hf : (nI fl &&& (16 : Int32)) = 0
    · rw [if_pos hf]
      have f1 : mfr clL [] σ (sf σ 69 (nI (U2 P.1 p))) := mfr.sf (by decide)
      refine m_cls (pl := pl) (x := 0) (B := ¬ ¬ (nI fl &&& (16 : Int32)) = 0) h g hfu (v := 9) (by omega) hs hp ⟨fun z => absurd z.1 (by decide), fun z => absurd hf (fun y => z (fun q => q y))⟩ (fun z9 hp2 => ⟨sf σ 69 (nI (U2 P.1 p)), ?_, ⟨a1.ot rfl (Or.inl ⟨by decide, rfl⟩) (Or.inl ⟨by decide, rfl⟩) (Or.inl ⟨by decide, rfl⟩) (Or.inr ⟨rfl, rfl⟩) (Or.inl ⟨by decide, rfl⟩) ⟨by decide, by decide, rfl⟩, st _ (by omega) (by omega) rfl rfl, a3.tr f1⟩, f1⟩)
      unfold m_attribute_349 m_attribute_366 m_attribute_381
      rw [if_neg (show ¬ nI 9 = (2 : Int32) by decide), if_neg (show ¬ nI 9 = (7 : Int32) by decide), if_pos (show nI 9 = (9 : Int32) from rfl), m_u2_ok h.1.1 hp2, Option.bind_some, nx_eq]
    · rw [if_neg hf]
      by_cases ht : tabS P.1 p len 2
      · rw [if_pos ht, if_pos ht, ci_f (fun z => z.2 hf)]
        exact mAt.er (by omega)
      · rw [if_neg ht, if_neg ht]
        exact mAt.er (by omega)
end MAtt3
