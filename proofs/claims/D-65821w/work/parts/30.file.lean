/-! the file's structure: what is read, and the twin's reading -/
section File
set_option maxRecDepth 100000
def skA (F : Nat → Int32) (n : Nat) : Nat → Nat → FE Nat
  | 0, p => .ok p
  | k + 1, p => eb (itS n p 2) fun _ => eb (itS n (p + 2) 4) fun _ => eb (itS n (p + 6) (U4 F (p + 2))) fun _ => skA F n k (p + 6 + U4 F (p + 2))
def attrS (F : Nat → Int32) (n p : Nat) : FE Nat := eb (itS n p 2) fun _ => skA F n (U2 F p) (p + 2)
def skM (F : Nat → Int32) (n : Nat) : Nat → Nat → FE Nat
  | 0, p => .ok p
  | k + 1, p => eb (itS n p 2) fun _ => eb (itS n (p + 2) 2) fun _ => eb (itS n (p + 4) 2) fun _ => eb (attrS F n (p + 6)) fun q => skM F n k q
def membS (F : Nat → Int32) (n p : Nat) : FE Nat := eb (itS n p 2) fun _ => skM F n (U2 F p) (p + 2)
def skI (n : Nat) : Nat → Nat → FE Nat
  | 0, p => .ok p
  | k + 1, p => eb (itS n p 2) fun _ => skI n k (p + 2)
theorem nI_2 (a : Nat) : nI a + 2 = nI (a + 2) := nI_add a 2
theorem nI_3 (a : Nat) : nI a + 3 = nI (a + 3) := nI_add a 3
theorem nI_4 (a : Nat) : nI a + 4 = nI (a + 4) := nI_add a 4
theorem nI_6 (a : Nat) : nI a + 6 = nI (a + 6) := nI_add a 6
theorem nI_8 (a : Nat) : nI a + 8 = nI (a + 8) := nI_add a 8
def atQ (q : Nat) (σ : SM) : Prop := σ.1 50 = nI q
/-- the twin's attributes() -/
theorem m_attrs_loop {F : Nat → Int32} {n fu : Nat} (hn : n ≤ 65560) : ∀ (k : Nat) (f p i : Nat) (σ : SM), k < f → mF F n σ → σ.1 50 = nI p → p ≤ n → i + k < 2 ^ 31 → mRes [47, 48, 50] [] (skA F n k p) (fun q σ' => σ'.1 50 = nI q ∧ q ≤ n) σ (m_attributes_33L fu f σ (nI (i + k)) (nI i)) := by
  intro k
  induction k with
  | zero =>
    intro f p i σ hf hF hp hpn hi
    obtain ⟨f, rfl⟩ : ∃ z9, f = z9 + 1 := ⟨f - 1, by omega⟩
    show mRes _ _ _ _ σ (m_attributes_33 fu (m_attributes_33L fu f) σ (nI (i + 0)) (nI i))
    unfold m_attributes_33
    rw [if_pos (nI_le (by omega) (by omega))]
    exact mRes.ok ⟨hp, hpn⟩
  | succ k ih =>
    intro f p i σ hf hF hp hpn hi
    obtain ⟨f, rfl⟩ : ∃ z9, f = z9 + 1 := ⟨f - 1, by omega⟩
    show mRes _ _ _ _ σ (m_attributes_33 fu (m_attributes_33L fu f) σ (nI (i + (k + 1))) (nI i))
    unfold m_attributes_33
    rw [if_neg (nI_ge (by omega) (by omega))]
    refine (m_item_ok (k := 2) hF hp (by omega) (by omega) (by decide) (by decide)).bnd ?_
    rintro _ σ1 h1 rfl -
    have h1 := itS_ok h1
    rw [nx_eq, hp, nI_2]
    refine mRes.fr (mfr.sf (k := 50) (v := (nI (p + 2))) (by decide)) ?_
    have hF2 : mF F n (sf σ1 50 (nI (p + 2))) := (mfr.sf (L := [50]) (A := []) (by decide)).mF hF (by decide) (by decide) (by decide)
    refine (m_item_ok (k := 4) hF2 sf_eq (by omega) (by omega) (by decide) (by decide)).bnd ?_
    rintro _ σ2 h2 rfl -
    have h2 := itS_ok h2
    rw [sf_eq, m_u4_ok hF2 (by omega), Option.bind_some, nx_eq, nI_4]
    refine mRes.fr (mfr.sf (k := 50) (v := (nI (p + 2 + 4))) (by decide)) ?_
    have hF3 : mF F n (sf (sf σ1 50 (nI (p + 2))) 50 (nI (p + 2 + 4))) := (mfr.sf (L := [50]) (A := []) (by decide)).mF hF2 (by decide) (by decide) (by decide)
    have hu := U4_lt F (p + 2)
    refine (m_item_ok (k := U4 F (p + 2)) hF3 sf_eq (by omega) (by omega) (by decide) (by decide)).bnd ?_
    rintro _ σ3 h3 rfl -
    have h3 := itS_ok h3
    rw [nx_eq, sf_eq, lN_i', nI_add, nx_eq, nI_1]
    refine mRes.fr (mfr.sf (k := 50) (v := (nI (p + 2 + 4 + U4 F (p + 2)))) (by decide)) ?_
    have hF4 : mF F n (sf (sf (sf σ1 50 (nI (p + 2))) 50 (nI (p + 2 + 4))) 50 (nI (p + 2 + 4 + U4 F (p + 2)))) := (mfr.sf (L := [50]) (A := []) (by decide)).mF hF3 (by decide) (by decide) (by decide)
    have := ih f (p + 6 + U4 F (p + 2)) (i + 1) _ (by omega) hF4 sf_eq (by omega) (by omega)
    rw [show i + 1 + k = i + (k + 1) by omega] at this
    exact this
theorem m_attrs_ok {F : Nat → Int32} {n fu p : Nat} {σ : SM} (hn : n ≤ 65560) (hfu : 65536 < fu) (hF : mF F n σ) (hp : σ.1 50 = nI p) (hpn : p ≤ n) : mRes [47, 48, 50] [] (attrS F n p) (fun q σ' => σ'.1 50 = nI q ∧ q ≤ n) σ (m_attributes fu σ) := by
  unfold m_attributes m_attributes_0 attrS
  refine (m_item_ok (k := 2) hF hp (by omega) (by omega) (by decide) (by decide)).bnd ?_
  rintro _ σ1 h1 rfl -
  have h1 := itS_ok h1
  rw [hp, m_u2_ok hF (by omega), Option.bind_some, nx_eq, nI_2]
  refine mRes.fr (mfr.sf (k := 50) (v := (nI (p + 2))) (by decide)) ?_
  have hF2 : mF F n (sf σ1 50 (nI (p + 2))) := (mfr.sf (L := [50]) (A := []) (by decide)).mF hF (by decide) (by decide) (by decide)
  have hu := U2_lt F p
  have := m_attrs_loop (F := F) (fu := fu) hn (U2 F p) fu (p + 2) 0 _ (by omega) hF2 sf_eq (by omega) (by omega)
  rw [Nat.zero_add] at this
  exact this
theorem m_memb_loop {F : Nat → Int32} {n fu : Nat} (hn : n ≤ 65560) (hfu : 65536 < fu) : ∀ (k : Nat) (f p i : Nat) (σ : SM), k < f → mF F n σ → σ.1 50 = nI p → p ≤ n → i + k < 2 ^ 31 → mRes [47, 48, 50] [] (skM F n k p) (fun q σ' => σ'.1 50 = nI q ∧ q ≤ n) σ (m_members_33L fu f σ (nI (i + k)) (nI i)) := by
  intro k
  induction k with
  | zero =>
    intro f p i σ hf hF hp hpn hi
    obtain ⟨f, rfl⟩ : ∃ z9, f = z9 + 1 := ⟨f - 1, by omega⟩
    show mRes _ _ _ _ σ (m_members_33 fu (m_members_33L fu f) σ (nI (i + 0)) (nI i))
    unfold m_members_33
    rw [if_pos (nI_le (by omega) (by omega))]
    exact mRes.ok ⟨hp, hpn⟩
  | succ k ih =>
    intro f p i σ hf hF hp hpn hi
    obtain ⟨f, rfl⟩ : ∃ z9, f = z9 + 1 := ⟨f - 1, by omega⟩
    show mRes _ _ _ _ σ (m_members_33 fu (m_members_33L fu f) σ (nI (i + (k + 1))) (nI i))
    unfold m_members_33
    rw [if_neg (nI_ge (by omega) (by omega))]
    obtain ⟨g, rfl⟩ : ∃ g, fu = g + 1 + 1 + 1 + 1 := ⟨fu - 4, by omega⟩
    show mRes _ _ _ _ σ (m_members_40 (g + 1 + 1 + 1 + 1) (m_members_33L (g + 1 + 1 + 1 + 1) f) (m_members_40L (g + 1 + 1 + 1 + 1) (m_members_33L (g + 1 + 1 + 1 + 1) f) (g + 1 + 1 + 1)) σ (nI (i + (k + 1))) (nI i) (nI 0))
    unfold m_members_40
    rw [if_neg (by decide)]
    refine (m_item_ok (k := 2) hF hp (by omega) (by omega) (by decide) (by decide)).bnd ?_
    rintro _ σ1 h1 rfl -
    have h1 := itS_ok h1
    rw [nx_eq, hp, nI_2, nx_eq]
    refine mRes.fr (mfr.sf (k := 50) (v := (nI (p + 2))) (by decide)) ?_
    have hF2 : mF F n (sf σ1 50 (nI (p + 2))) := (mfr.sf (L := [50]) (A := []) (by decide)).mF hF (by decide) (by decide) (by decide)
    show mRes _ _ _ _ _ (m_members_40 (g + 1 + 1 + 1 + 1) (m_members_33L (g + 1 + 1 + 1 + 1) f) (m_members_40L (g + 1 + 1 + 1 + 1) (m_members_33L (g + 1 + 1 + 1 + 1) f) (g + 1 + 1)) _ (nI (i + (k + 1))) (nI i) (nI 1))
    unfold m_members_40
    rw [if_neg (by decide)]
    refine (m_item_ok (k := 2) hF2 sf_eq (by omega) (by omega) (by decide) (by decide)).bnd ?_
    rintro _ σ2 h2 rfl -
    have h2 := itS_ok h2
    rw [nx_eq, sf_eq, nI_2, nx_eq]
    refine mRes.fr (mfr.sf (k := 50) (v := (nI (p + 2 + 2))) (by decide)) ?_
    have hF3 : mF F n (sf (sf σ1 50 (nI (p + 2))) 50 (nI (p + 2 + 2))) := (mfr.sf (L := [50]) (A := []) (by decide)).mF hF2 (by decide) (by decide) (by decide)
    show mRes _ _ _ _ _ (m_members_40 (g + 1 + 1 + 1 + 1) (m_members_33L (g + 1 + 1 + 1 + 1) f) (m_members_40L (g + 1 + 1 + 1 + 1) (m_members_33L (g + 1 + 1 + 1 + 1) f) (g + 1)) _ (nI (i + (k + 1))) (nI i) (nI 2))
    unfold m_members_40
    rw [if_neg (by decide)]
    refine (m_item_ok (k := 2) hF3 sf_eq (by omega) (by omega) (by decide) (by decide)).bnd ?_
    rintro _ σ3 h3 rfl -
    have h3 := itS_ok h3
    rw [nx_eq, sf_eq, nI_2, nx_eq]
    refine mRes.fr (mfr.sf (k := 50) (v := (nI (p + 2 + 2 + 2))) (by decide)) ?_
    have hF4 : mF F n (sf (sf (sf σ1 50 (nI (p + 2))) 50 (nI (p + 2 + 2))) 50 (nI (p + 2 + 2 + 2))) := (mfr.sf (L := [50]) (A := []) (by decide)).mF hF3 (by decide) (by decide) (by decide)
    show mRes _ _ _ _ _ (m_members_40 (g + 1 + 1 + 1 + 1) (m_members_33L (g + 1 + 1 + 1 + 1) f) (m_members_40L (g + 1 + 1 + 1 + 1) (m_members_33L (g + 1 + 1 + 1 + 1) f) g) _ (nI (i + (k + 1))) (nI i) (nI 3))
    unfold m_members_40
    rw [if_pos (by decide)]
    refine (m_attrs_ok (p := p + 6) hn hfu hF4 sf_eq (by omega)).bnd ?_
    rintro q σ4 h4 ⟨hq1, hq2⟩ hfr
    rw [nx_eq, nI_1]
    have := ih f q (i + 1) σ4 (by omega) (hfr.mF hF4 (by decide) (by decide) (by decide)) hq1 hq2 (by omega)
    rw [show i + 1 + k = i + (k + 1) by omega] at this
    exact this
theorem m_memb_ok {F : Nat → Int32} {n fu p : Nat} {σ : SM} (hn : n ≤ 65560) (hfu : 65536 < fu) (hF : mF F n σ) (hp : σ.1 50 = nI p) (hpn : p ≤ n) : mRes [47, 48, 50] [] (membS F n p) (fun q σ' => σ'.1 50 = nI q ∧ q ≤ n) σ (m_members fu σ) := by
  unfold m_members m_members_0 membS
  refine (m_item_ok (k := 2) hF hp (by omega) (by omega) (by decide) (by decide)).bnd ?_
  rintro _ σ1 h1 rfl -
  have h1 := itS_ok h1
  rw [hp, m_u2_ok hF (by omega), Option.bind_some, nx_eq, nI_2]
  refine mRes.fr (mfr.sf (k := 50) (v := (nI (p + 2))) (by decide)) ?_
  have hF2 : mF F n (sf σ1 50 (nI (p + 2))) := (mfr.sf (L := [50]) (A := []) (by decide)).mF hF (by decide) (by decide) (by decide)
  have hu := U2_lt F p
  have := m_memb_loop (F := F) (fu := fu) hn hfu (U2 F p) fu (p + 2) 0 _ (by omega) hF2 sf_eq (by omega) (by omega)
  rw [Nat.zero_add] at this
  exact this
end File
