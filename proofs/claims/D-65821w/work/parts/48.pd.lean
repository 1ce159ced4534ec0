/-! the pool as data, and how either side holds it -/
section PoolD
set_option maxRecDepth 100000
/-- bytes, size, places of the entries (0 none), texts -/
abbrev PD : Type := (Nat → Int32) × Nat × (Nat → Nat) × (Nat → List Nat)
def mjP (P : PD) : Nat := U2 P.1 6
def ctP (P : PD) : Nat := U2 P.1 8
def tgP (P : PD) (i : Nat) : Nat := tgS P.1 (P.2.2.1 i)
def paP (P : PD) (i : Nat) : Nat := paS P.1 (P.2.2.1 i)
def pbP (P : PD) (i : Nat) : Nat := pbS P.1 (P.2.2.1 i)
def pvP (P : PD) (i : Nat) : Int64 := pvS P.1 (P.2.2.1 i)
def txP (P : PD) (i : Nat) : List Nat := P.2.2.2 i
/-- what a pool that was read is like -/
def PG (P : PD) : Prop := P.2.1 ≤ 1300 ∧ 10 ≤ P.2.1 ∧ (∀ i, ctP P ≤ i → P.2.2.1 i = 0) ∧ P.2.2.1 0 = 0 ∧ (∀ i, P.2.2.1 i ≠ 0 → egd P.1 P.2.1 (mjP P) (P.2.2.1 i)) ∧ 3 * ctP P + 7 ≤ P.2.1 ∧ 45 ≤ mjP P ∧ mjP P ≤ 61 ∧ 1 ≤ ctP P
theorem ctP_lt (P : PD) : ctP P < 65536 := U2_lt _ _
theorem mjP_lt (P : PD) : mjP P < 65536 := U2_lt _ _
theorem tgP_lt (P : PD) (i : Nat) : tgP P i < 256 := by
  unfold tgP tgS
  split
  · omega
  · exact U1_lt _ _
theorem paP_lt (P : PD) (i : Nat) : paP P i < 65536 := by
  unfold paP paS
  have := U1_lt P.1 (P.2.2.1 i + 1)
  have := U2_lt P.1 (P.2.2.1 i + 1)
  repeat' split
  all_goals omega
theorem pbP_lt (P : PD) (i : Nat) : pbP P i < 65536 := by
  unfold pbP pbS
  have := U2_lt P.1 (P.2.2.1 i + 2)
  have := U2_lt P.1 (P.2.2.1 i + 3)
  repeat' split
  all_goals omega
theorem PG.in {P : PD} (h : PG P) {i : Nat} (ht : tgP P i ≠ 0) : 0 < i ∧ i < ctP P ∧ P.2.2.1 i ≠ 0 ∧ tgP P i = U1 P.1 (P.2.2.1 i) := by
  have hA : P.2.2.1 i ≠ 0 := fun z => ht (by unfold tgP; rw [z]; rfl)
  refine ⟨Nat.pos_of_ne_zero fun z => hA (by rw [z]; exact h.2.2.2.1), Nat.lt_of_not_le fun z => hA (h.2.2.1 i z), hA, if_neg hA⟩
theorem PG.sz {P : PD} (h : PG P) {i : Nat} (ht : tgP P i ≠ 0) : 10 ≤ P.2.2.1 i ∧ P.2.2.1 i + esz (tgP P i) ≤ P.2.1 ∧ goodT (tgP P i) (mjP P) := by
  obtain ⟨h1, h2, h3, h4⟩ := h.in ht
  rw [h4]
  exact h.2.2.2.2.1 i h3
theorem PG.gd {P : PD} (h : PG P) (i : Nat) : tgP P i = 0 ∨ tgP P i = 1 ∨ (3 ≤ tgP P i ∧ tgP P i ≤ 12) ∨ (15 ≤ tgP P i ∧ tgP P i ≤ 20) := by
  by_cases z : tgP P i = 0
  · exact Or.inl z
  · have := (h.sz z).2.2
    omega
theorem paP_eq {P : PD} {i : Nat} (h : oneT (tgP P i) ∨ twoT (tgP P i)) : paP P i = U2 P.1 (P.2.2.1 i + 1) := by
  unfold tgP tgS at h
  unfold paP paS
  split at h
  · omega
  · rename_i z
    rw [if_neg z, if_neg (by omega), if_pos h]
theorem paP_15 {P : PD} {i : Nat} (h : tgP P i = 15) : paP P i = U1 P.1 (P.2.2.1 i + 1) ∧ pbP P i = U2 P.1 (P.2.2.1 i + 2) := by
  unfold tgP tgS at h
  unfold paP paS pbP pbS
  split at h
  · omega
  · rename_i z
    rw [if_neg z, if_pos h, if_neg z, if_pos h]
    exact ⟨rfl, rfl⟩
theorem pbP_eq {P : PD} {i : Nat} (h : twoT (tgP P i)) : pbP P i = U2 P.1 (P.2.2.1 i + 3) := by
  unfold tgP tgS at h
  unfold pbP pbS
  split at h
  · omega
  · rename_i z
    rw [if_neg z, if_neg (by omega), if_pos h]
/-- the twin holds the pool -/
def mPo (P : PD) (N : Nat) (S : Nat → List Nat) (σ : SM) : Prop := (mF P.1 P.2.1 σ ∧ σ.1 51 = 0 ∧ σ.1 52 = nI (ctP P) ∧ σ.1 53 = nI (mjP P)) ∧ mSI N S σ ∧ ∀ i, i < ctP P → σ.2 21 i = (if P.2.2.1 i = 0 then -1 else nI (P.2.2.1 i)) ∧ (tgP P i = 1 → ∃ s, s < N ∧ σ.2 22 i = nI s ∧ S s = txP P i)
theorem mPo.fr {P : PD} {N : Nat} {S : Nat → List Nat} {σ σ' : SM} {L A : List Nat} (h : mPo P N S σ) (f : mfr L A σ σ') (h1 : (49 ∉ L ∧ 16 ∉ L ∧ 51 ∉ L ∧ 52 ∉ L ∧ 53 ∉ L) ∧ (8 ∉ L ∧ 3 ∉ L) ∧ 9 ∉ L ∧ 10 ∉ L ∧ 11 ∉ L) (h2 : (12 ∉ A ∧ 21 ∉ A ∧ 22 ∉ A) ∧ 1 ∉ A ∧ 4 ∉ A ∧ 5 ∉ A ∧ 6 ∉ A ∧ 7 ∉ A) : mPo P N S σ' := by
  obtain ⟨⟨a1, a2, a3, a4⟩, a5, a6⟩ := h
  obtain ⟨⟨l1, l2, l3, l4, l5⟩, l6⟩ := h1
  obtain ⟨⟨g1, g2, g3⟩, g4⟩ := h2
  refine ⟨⟨f.mF a1 l1 l2 g1, (f.1 51 l3).trans a2, (f.1 52 l4).trans a3, (f.1 53 l5).trans a4⟩, a5.fr f l6 g4, fun i hi => ?_⟩
  rw [f.2 21 g2, f.2 22 g3]
  exact a6 i hi
theorem m_tag_ok {P : PD} {N : Nat} {S : Nat → List Nat} {σ : SM} (h : mPo P N S σ) (g : PG P) {i : Nat} (hi : i < 65536) : m_tag σ (nI i) = some (nI (tgP P i)) := by
  obtain ⟨⟨a1, a2, a3, a4⟩, a5, a6⟩ := h
  have hc := ctP_lt P
  unfold m_tag m_tag_0 m_tag_26
  have t0 : P.2.2.1 i = 0 → tgP P i = 0 := fun z => by unfold tgP; rw [z]; rfl
  by_cases h0 : i = 0
  · subst h0
    rw [if_pos (by decide), t0 g.2.2.2.1]
    rfl
  rw [if_neg (show ¬ nI i ≤ 0 from nI_ge (a := 0) (by omega) (by omega)), a3]
  by_cases h1 : ctP P ≤ i
  · rw [if_pos (nI_le h1 (by omega)), t0 (g.2.2.1 i h1)]
    rfl
  rw [if_neg (nI_ge (by omega) (by omega)), a2, Int32.zero_add, nI_clamp (by omega), ckIn_n (by omega) (by omega), ckIn_n (by omega) (by omega), (a6 i (by omega)).1]
  by_cases hA : P.2.2.1 i = 0
  · rw [if_pos hA, if_neg (by decide), t0 hA]
    rfl
  · have hg := g.2.2.2.2.1 i hA
    have hn := g.1
    have he : 0 < esz (U1 P.1 (P.2.2.1 i)) := by
      unfold esz
      repeat' split
      all_goals omega
    have := hg.2.1
    rw [if_neg hA, if_pos (nI_pos' (by omega)), m_u1_ok a1 (by omega), Option.bind_some]
    exact congrArg some (congrArg nI (if_neg hA).symm)
theorem m_index_ok {P : PD} {N : Nat} {S : Nat → List Nat} {σ : SM} (h : mPo P N S σ) (g : PG P) {i j : Nat} (ht : tgP P i ≠ 0) (hj : j + 2 ≤ esz (tgP P i)) : m_index σ (nI i) (nI j) = some (nI (U2 P.1 (P.2.2.1 i + j))) := by
  obtain ⟨⟨a1, a2, a3, a4⟩, a5, a6⟩ := h
  obtain ⟨h1, h2, h3, h4⟩ := g.in ht
  obtain ⟨s1, s2, s3⟩ := g.sz ht
  have hc := ctP_lt P
  unfold m_index m_index_0
  rw [a2, Int32.zero_add, nI_clamp (by omega), ckIn_n (by omega) (by omega), (a6 i h2).1, if_neg h3, nI_add, m_u2_ok a1 (by omega), Option.bind_some]
theorem esz_two {t : Nat} (h : twoT t) : esz t = 5 := by
  unfold esz
  rw [if_neg (by omega), if_neg (by omega), if_neg (by omega), if_pos h]
theorem esz_one {t : Nat} (h : oneT t) : esz t = 3 := by
  unfold esz
  rw [if_neg (by omega), if_neg (by omega), if_neg (by omega), if_neg (by omega)]
theorem m_ix1 {P : PD} {N : Nat} {S : Nat → List Nat} {σ : SM} (h : mPo P N S σ) (g : PG P) {i : Nat} (ht : oneT (tgP P i) ∨ twoT (tgP P i)) : m_index σ (nI i) 1 = some (nI (paP P i)) := by
  rw [paP_eq ht]
  refine m_index_ok (j := 1) h g (by omega) ?_
  rcases ht with z | z
  · rw [esz_one z]
    omega
  · rw [esz_two z]
    omega
theorem m_ix3 {P : PD} {N : Nat} {S : Nat → List Nat} {σ : SM} (h : mPo P N S σ) (g : PG P) {i : Nat} (ht : twoT (tgP P i)) : m_index σ (nI i) 3 = some (nI (pbP P i)) := by
  rw [pbP_eq ht]
  refine m_index_ok (j := 3) h g (by omega) ?_
  rw [esz_two ht]
  omega
theorem m_ix2 {P : PD} {N : Nat} {S : Nat → List Nat} {σ : SM} (h : mPo P N S σ) (g : PG P) {i : Nat} (ht : tgP P i = 15) : m_index σ (nI i) 2 = some (nI (pbP P i)) := by
  rw [(paP_15 ht).2]
  refine m_index_ok (j := 2) h g (by omega) ?_
  rw [ht]
  decide
theorem m_sym {P : PD} {N : Nat} {S : Nat → List Nat} {σ : SM} (h : mPo P N S σ) (g : PG P) {i : Nat} (ht : tgP P i = 1) : ∃ s, m_symOf σ (nI i) = some (nI s) ∧ s < N ∧ S s = txP P i ∧ mW (txP P i) (nI s) σ := by
  obtain ⟨⟨a1, a2, a3, a4⟩, a5, a6⟩ := h
  obtain ⟨h1, h2, h3, h4⟩ := g.in (i := i) (by omega)
  obtain ⟨s, b1, b2, b3⟩ := (a6 i h2).2 ht
  have hc := ctP_lt P
  refine ⟨s, ?_, b1, b3, ?_⟩
  · unfold m_symOf m_symOf_0
    rw [a2, Int32.zero_add, nI_clamp (by omega), ckIn_n (by omega) (by omega), b2]
  · rw [← b3]
    exact a5.1.mW b1
/-- two symbols are one just if their texts are -/
theorem mSI.inj {N : Nat} {S : Nat → List Nat} {σ : SM} (h : mSI N S σ) {s t : Nat} (hs : s < N) (ht : t < N) : nI s = nI t ↔ S s = S t := by
  obtain ⟨b1, b2, b3, b4, b5, b6, b7⟩ := h.1
  constructor
  · intro z
    rw [(nI_eq (by omega) (by omega)).mp z]
  · intro z
    rw [b7 s t hs ht z]
theorem mSI.i9 {N : Nat} {S : Nat → List Nat} {σ : SM} (h : mSI N S σ) {s : Nat} (hs : s < N) : nI s = σ.1 9 ↔ S s = lT 10 := by
  obtain ⟨i, b1, b2, b3⟩ := h.2.1
  rw [b2, h.inj hs b1, b3]
theorem mSI.i10 {N : Nat} {S : Nat → List Nat} {σ : SM} (h : mSI N S σ) {s : Nat} (hs : s < N) : nI s = σ.1 10 ↔ S s = lT 11 := by
  obtain ⟨i, b1, b2, b3⟩ := h.2.2.1
  rw [b2, h.inj hs b1, b3]
theorem mSI.i11 {N : Nat} {S : Nat → List Nat} {σ : SM} (h : mSI N S σ) {s : Nat} (hs : s < N) : nI s = σ.1 11 ↔ S s = lT 12 := by
  obtain ⟨i, b1, b2, b3⟩ := h.2.2.2
  rw [b2, h.inj hs b1, b3]
/-- the component's object c holds the pool; N: the addresses that are to stay as they are -/
def xPc (P : PD) (c lo : Nat) (N : Nat → Prop) (σ : GS) : Prop :=
  (gk σ c = 2 ∧ gi σ c 1 = nI (mjP P) ∧ gi σ c 2 = nI (U2 P.1 4) ∧ gi σ c 6 = nI (ctP P)) ∧
  (gr σ c 7 = some lo ∧ gr σ c 8 = some (lo + 1) ∧ gr σ c 9 = some (lo + 2) ∧ gr σ c 10 = some (lo + 3) ∧ gr σ c 11 = some (lo + 4)) ∧
  (gk σ lo = 101 ∧ gk σ (lo + 1) = 100 ∧ gk σ (lo + 2) = 100 ∧ gk σ (lo + 3) = 104 ∧ gk σ (lo + 4) = 105) ∧
  (gn σ lo = ctP P ∧ gn σ (lo + 1) = ctP P ∧ gn σ (lo + 2) = ctP P ∧ gn σ (lo + 3) = ctP P ∧ gn σ (lo + 4) = ctP P) ∧
  (N c ∧ N lo ∧ N (lo + 1) ∧ N (lo + 2) ∧ N (lo + 3) ∧ N (lo + 4)) ∧
  ∀ i, i < ctP P → gi σ lo i = nI (tgP P i) ∧ gi σ (lo + 1) i = nI (paP P i) ∧ gi σ (lo + 2) i = nI (pbP P i) ∧ gl σ (lo + 3) i = pvP P i ∧ (tgP P i = 1 → ∃ s, gr σ (lo + 4) i = some s ∧ sS (txP P i) s σ ∧ N s ∧ ∀ w, gr σ s 0 = some w → N w)
/-- of c only what does not belong to the pool may change -/
def wN (c : Nat) (N : Nat → Prop) (a j : Nat) : Prop := N a → a = c ∧ (j = 0 ∨ j = 3 ∨ j = 4 ∨ j = 5 ∨ 12 ≤ j)
theorem xPc.fr {P : PD} {c lo : Nat} {N : Nat → Prop} {σ σ' : GS} {W : Nat → Nat → Prop} (h : xPc P c lo N σ) (f : Fq W σ σ') (hw : WF σ) (hN : ∀ a j, W a j → wN c N a j) : xPc P c lo N σ' := by
  obtain ⟨⟨a1, a2, a3, a4⟩, ⟨r7, r8, r9, r10, r11⟩, ⟨k0, k1, k2, k3, k4⟩, ⟨n0, n1, n2, n3, n4⟩, ⟨m0, m1, m2, m3, m4, m5⟩, hE⟩ := h
  have lt : ∀ {a K : Nat}, gk σ a = K → K ≠ 0 → a < gx σ := fun {a K} q r => hw.lt (by rw [q]; exact r)
  have lc := lt a1 (by decide)
  have l0 := lt k0 (by decide)
  have l1 := lt k1 (by decide)
  have l2 := lt k2 (by decide)
  have l3 := lt k3 (by decide)
  have l4 := lt k4 (by decide)
  have nc : ∀ j, (j = 1 ∨ j = 2 ∨ (6 ≤ j ∧ j ≤ 11)) → ¬ W c j := fun j hj z => by
    have := (hN c j z m0).2
    omega
  have ne : ∀ {a K : Nat}, gk σ a = K → K ≠ 2 → N a → ∀ j, ¬ W a j := fun {a K} q r m j z => by
    have := (hN a j z m).1
    rw [this, a1] at q
    exact r q.symm
  refine ⟨⟨f.gk hw a1 (by decide), (f.gi lc (nc 1 (by omega))).trans a2, (f.gi lc (nc 2 (by omega))).trans a3, (f.gi lc (nc 6 (by omega))).trans a4⟩, ⟨(f.gr lc (nc 7 (by omega))).trans r7, (f.gr lc (nc 8 (by omega))).trans r8, (f.gr lc (nc 9 (by omega))).trans r9, (f.gr lc (nc 10 (by omega))).trans r10, (f.gr lc (nc 11 (by omega))).trans r11⟩, ⟨f.gk hw k0 (by decide), f.gk hw k1 (by decide), f.gk hw k2 (by decide), f.gk hw k3 (by decide), f.gk hw k4 (by decide)⟩, ⟨(f.gn l0).trans n0, (f.gn l1).trans n1, (f.gn l2).trans n2, (f.gn l3).trans n3, (f.gn l4).trans n4⟩, ⟨m0, m1, m2, m3, m4, m5⟩, fun i hi => ?_⟩
  obtain ⟨e1, e2, e3, e4, e5⟩ := hE i hi
  refine ⟨(f.gi l0 (ne k0 (by decide) m1 i)).trans e1, (f.gi l1 (ne k1 (by decide) m2 i)).trans e2, (f.gi l2 (ne k2 (by decide) m3 i)).trans e3, (f.gl l3 (ne k3 (by decide) m4 i)).trans e4, fun ht => ?_⟩
  obtain ⟨s, s1, s2, s3, s4⟩ := e5 ht
  have ls : s < gx σ := lt s2.1 (by decide)
  have nW : ∀ v, Jvm.Pilot.CClassGateLaw_law_r6225_9613d7.gr σ s 0 = some v → ∀ j, ¬ W v j := by
    intro v hv
    obtain ⟨w, g4, g5, -⟩ := s2.2.2.2
    have : v = w := by
      rw [g4] at hv
      cases hv
      rfl
    rw [this] at hv ⊢
    exact ne g5 (by decide) (s4 w hv)
  refine ⟨s, (f.gr l4 (ne k4 (by decide) m5 i)).trans s1, f.str hw s2 (ne s2.1 (by decide) s3) nW, s3, fun w hv => s4 w ?_⟩
  rw [f.gr ls (ne s2.1 (by decide) s3 0)] at hv
  exact hv
theorem xPc.mo {P : PD} {c lo : Nat} {N N' : Nat → Prop} {σ : GS} (h : xPc P c lo N σ) (hN : ∀ a, N a → N' a) : xPc P c lo N' σ := by
  obtain ⟨a1, a2, a3, a4, ⟨m0, m1, m2, m3, m4, m5⟩, hE⟩ := h
  refine ⟨a1, a2, a3, a4, ⟨hN _ m0, hN _ m1, hN _ m2, hN _ m3, hN _ m4, hN _ m5⟩, fun i hi => ?_⟩
  obtain ⟨e1, e2, e3, e4, e5⟩ := hE i hi
  refine ⟨e1, e2, e3, e4, fun ht => ?_⟩
  obtain ⟨s, s1, s2, s3, s4⟩ := e5 ht
  exact ⟨s, s1, s2, hN _ s3, fun w hw => hN _ (s4 w hw)⟩
theorem x_isTag_ok {P : PD} {c lo : Nat} {N : Nat → Prop} {σ : GS} (h : xPc P c lo N σ) (g : PG P) {i t : Nat} (hi : i < 65536) (ht : 0 < t) (ht2 : t < 256) : x_isTag σ c (nI i) (nI t) = some (bi (tgP P i = t)) := by
  obtain ⟨⟨a1, a2, a3, a4⟩, ⟨r7, r8, r9, r10, r11⟩, ⟨k0, k1, k2, k3, k4⟩, ⟨n0, n1, n2, n3, n4⟩, ⟨m0, m1, m2, m3, m4, m5⟩, hE⟩ := h
  have hc := ctP_lt P
  have hl := tgP_lt P i
  have t0 : P.2.2.1 i = 0 → tgP P i = 0 := fun z => by unfold tgP; rw [z]; rfl
  unfold x_isTag x_isTag_0 x_isTag_26
  by_cases h0 : i = 0
  · subst h0
    rw [if_pos (by decide), bi_f (fun z => by have := t0 g.2.2.2.1; omega)]
  rw [if_neg (show ¬ nI i ≤ 0 from nI_ge (a := 0) (by omega) (by omega)), ckT_ok a1, a4]
  by_cases h1 : ctP P ≤ i
  · rw [if_pos (nI_le h1 (by omega)), bi_f (fun z => by have := t0 (g.2.2.1 i h1); omega)]
  rw [if_neg (nI_ge (by omega) (by omega)), r7, ckK_ok k0, n0, ckIn_n (by omega) (by omega), nI_clamp (by omega), (hE i (by omega)).1]
  by_cases z : tgP P i = t
  · rw [if_pos (by rw [z]), bi_t z]
  · rw [if_neg (fun w => z ((nI_eq (by omega) (by omega)).mp w)), bi_f z]
theorem x_text {P : PD} {c lo : Nat} {N : Nat → Prop} {σ : GS} (h : xPc P c lo N σ) (g : PG P) {i : Nat} (ht : tgP P i = 1) : ∃ s, gr σ (lo + 4) i = some s ∧ sS (txP P i) s σ := by
  obtain ⟨h1, h2, h3, h4⟩ := g.in (i := i) (by omega)
  obtain ⟨s, b1, b2, -⟩ := (h.2.2.2.2.2 i h2).2.2.2.2 ht
  exact ⟨s, b1, b2⟩
theorem x_textAt_ok {P : PD} {c lo : Nat} {N : Nat → Prop} {σ : GS} (h : xPc P c lo N σ) (g : PG P) {i : Nat} (hi : i < 65536) : x_textAt σ c (nI i) = some (if tgP P i = 1 then gr σ (lo + 4) i else none) := by
  have hc := ctP_lt P
  unfold x_textAt x_textAt_0
  rw [show (1 : Int32) = nI 1 from rfl, x_isTag_ok h g hi (by omega) (by omega), Option.bind_some]
  by_cases ht : tgP P i = 1
  · obtain ⟨h1, h2, h3, h4⟩ := g.in (i := i) (by omega)
    rw [bi_t ht, if_neg i10, if_pos ht, ckT_ok h.1.1, h.2.1.2.2.2.2, ckK_ok h.2.2.1.2.2.2.2, h.2.2.2.1.2.2.2.2, ckIn_n h2 (by omega), nI_clamp (by omega)]
  · rw [bi_f ht, if_pos rfl, if_neg ht]
theorem x_tg {P : PD} {c lo : Nat} {N : Nat → Prop} {σ : GS} (h : xPc P c lo N σ) {i : Nat} (hi : i < ctP P) : gi σ lo i = nI (tgP P i) ∧ gi σ (lo + 1) i = nI (paP P i) ∧ gi σ (lo + 2) i = nI (pbP P i) ∧ gl σ (lo + 3) i = pvP P i := by
  obtain ⟨e1, e2, e3, e4, -⟩ := h.2.2.2.2.2 i hi
  exact ⟨e1, e2, e3, e4⟩
def isCl (P : PD) (i : Nat) : Prop := tgP P i = 7 ∧ tgP P (paP P i) = 1
def isPr (P : PD) (i : Nat) : Prop := tgP P i = 12 ∧ tgP P (paP P i) = 1 ∧ tgP P (pbP P i) = 1
def nmP (P : PD) (i : Nat) : List Nat := txP P (paP P (pbP P i))
def tyP (P : PD) (i : Nat) : List Nat := txP P (pbP P (pbP P i))
theorem x_isClass_ok {P : PD} {c lo : Nat} {N : Nat → Prop} {σ : GS} (h : xPc P c lo N σ) (g : PG P) {i : Nat} (hi : i < 65536) : x_isClass σ c (nI i) = some (bi (isCl P i)) := by
  have hc := ctP_lt P
  have hpa := paP_lt P i
  unfold x_isClass x_isClass_0 x_isClass_28
  rw [show (7 : Int32) = nI 7 from rfl, x_isTag_ok h g hi (by omega) (by omega), Option.bind_some]
  by_cases ht : tgP P i = 7
  · obtain ⟨h1, h2, h3, h4⟩ := g.in (i := i) (by omega)
    rw [bi_t ht, if_neg i10, ckT_ok h.1.1, h.2.1.2.1, ckK_ok h.2.2.1.2.1, h.2.2.2.1.2.1, ckIn_n h2 (by omega), nI_clamp (by omega), (x_tg h h2).2.1, show (1 : Int32) = nI 1 from rfl, x_isTag_ok h g hpa (by omega) (by omega), Option.bind_some]
    by_cases h2 : tgP P (paP P i) = 1
    · rw [bi_t h2, if_neg i10, bi_t ⟨ht, h2⟩]
      rfl
    · rw [bi_f h2, if_pos rfl, bi_f (fun z => h2 z.2)]
  · rw [bi_f ht, if_pos rfl, bi_f (fun z => ht z.1)]
theorem x_isPair_ok {P : PD} {c lo : Nat} {N : Nat → Prop} {σ : GS} (h : xPc P c lo N σ) (g : PG P) {i : Nat} (hi : i < 65536) : x_isPair σ c (nI i) = some (bi (isPr P i)) := by
  have hc := ctP_lt P
  have hpa := paP_lt P i
  have hpb := pbP_lt P i
  unfold x_isPair x_isPair_0 x_isPair_42
  rw [show (12 : Int32) = nI 12 from rfl, x_isTag_ok h g hi (by omega) (by omega), Option.bind_some]
  by_cases ht : tgP P i = 12
  · obtain ⟨h1, h2, h3, h4⟩ := g.in (i := i) (by omega)
    rw [bi_t ht, if_neg i10, ckT_ok h.1.1, h.2.1.2.1, ckK_ok h.2.2.1.2.1, h.2.2.2.1.2.1, ckIn_n h2 (by omega), nI_clamp (by omega), (x_tg h h2).2.1, show (1 : Int32) = nI 1 from rfl, x_isTag_ok h g hpa (by omega) (by omega), Option.bind_some]
    by_cases h5 : tgP P (paP P i) = 1
    · rw [bi_t h5, show (nI 1 : Int32) = 1 from rfl, if_neg i10, h.2.1.2.2.1, ckK_ok h.2.2.1.2.2.1, h.2.2.2.1.2.2.1, ckIn_n h2 (by omega), (x_tg h h2).2.2.1, show (1 : Int32) = nI 1 from rfl, x_isTag_ok h g hpb (by omega) (by omega), Option.bind_some]
      by_cases h6 : tgP P (pbP P i) = 1
      · rw [bi_t h6, if_neg (by decide), bi_t ⟨ht, h5, h6⟩]
        rfl
      · rw [bi_f h6, if_pos rfl, bi_f (fun z => h6 z.2.2)]
    · rw [bi_f h5, if_pos rfl, bi_f (fun z => h5 z.2.1)]
  · rw [bi_f ht, if_pos rfl, bi_f (fun z => ht z.1)]
theorem x_isWhole_ok {P : PD} {c lo : Nat} {N : Nat → Prop} {σ : GS} (h : xPc P c lo N σ) (g : PG P) {i : Nat} (hi : i < ctP P) : x_isWhole σ c (nI i) = some (bi (isCl P (paP P i) ∧ isPr P (pbP P i))) := by
  have hc := ctP_lt P
  unfold x_isWhole x_isWhole_0 x_isWhole_30
  rw [ckT_ok h.1.1, h.2.1.2.1, ckK_ok h.2.2.1.2.1, h.2.2.2.1.2.1, ckIn_n hi (by omega), nI_clamp (by omega), (x_tg h hi).2.1, x_isClass_ok h g (paP_lt P i), Option.bind_some]
  by_cases h5 : isCl P (paP P i)
  · rw [bi_t h5, if_neg i10, h.2.1.2.2.1, ckK_ok h.2.2.1.2.2.1, h.2.2.2.1.2.2.1, ckIn_n hi (by omega), (x_tg h hi).2.2.1, x_isPair_ok h g (pbP_lt P i), Option.bind_some]
    by_cases h6 : isPr P (pbP P i)
    · rw [bi_t h6, if_neg i10, bi_t ⟨h5, h6⟩]
    · rw [bi_f h6, if_pos rfl, bi_f (fun z => h6 z.2)]
  · rw [bi_f h5, if_pos rfl, bi_f (fun z => h5 z.1)]
/-- name and type of a member's entry -/
theorem x_nameAt_ok {P : PD} {c lo : Nat} {N : Nat → Prop} {σ : GS} (h : xPc P c lo N σ) (g : PG P) {i : Nat} (hi : i < ctP P) (hp : isPr P (pbP P i)) : ∃ s, x_nameAt σ c (nI i) = some (some s) ∧ sS (nmP P i) s σ := by
  have hc := ctP_lt P
  have hpa := paP_lt P (pbP P i)
  have hpb := pbP_lt P i
  obtain ⟨-, i1, -, -⟩ := g.in (i := pbP P i) (by have := hp.1; omega)
  obtain ⟨-, i2, -, -⟩ := g.in (i := paP P (pbP P i)) (by have := hp.2.1; omega)
  obtain ⟨s, s1, s2⟩ := x_text h g hp.2.1
  refine ⟨s, ?_, s2⟩
  unfold x_nameAt x_nameAt_0
  rw [ckT_ok h.1.1, h.2.1.2.2.1, ckK_ok h.2.2.1.2.2.1, h.2.2.2.1.2.2.1, ckIn_n hi (by omega), nI_clamp (by omega), (x_tg h hi).2.2.1, h.2.1.2.1, ckK_ok h.2.2.1.2.1, h.2.2.2.1.2.1, ckIn_n i1 (by omega), nI_clamp (by omega), (x_tg h i1).2.1, h.2.1.2.2.2.2, ckK_ok h.2.2.1.2.2.2.2, h.2.2.2.1.2.2.2.2, ckIn_n i2 (by omega), nI_clamp (by omega), s1]
theorem x_typeAt_ok {P : PD} {c lo : Nat} {N : Nat → Prop} {σ : GS} (h : xPc P c lo N σ) (g : PG P) {i : Nat} (hi : i < ctP P) (hp : isPr P (pbP P i)) : ∃ s, x_typeAt σ c (nI i) = some (some s) ∧ sS (tyP P i) s σ := by
  have hc := ctP_lt P
  have hpb := pbP_lt P i
  have hpb2 := pbP_lt P (pbP P i)
  obtain ⟨-, i1, -, -⟩ := g.in (i := pbP P i) (by have := hp.1; omega)
  obtain ⟨-, i2, -, -⟩ := g.in (i := pbP P (pbP P i)) (by have := hp.2.2; omega)
  obtain ⟨s, s1, s2⟩ := x_text h g hp.2.2
  refine ⟨s, ?_, s2⟩
  unfold x_typeAt x_typeAt_0
  rw [ckT_ok h.1.1, h.2.1.2.2.1, ckK_ok h.2.2.1.2.2.1, h.2.2.2.1.2.2.1, ckIn_n hi (by omega), nI_clamp (by omega), (x_tg h hi).2.2.1, ckIn_n i1 (by omega), nI_clamp (by omega), (x_tg h i1).2.2.1, h.2.1.2.2.2.2, ckK_ok h.2.2.1.2.2.2.2, h.2.2.2.1.2.2.2.2, ckIn_n i2 (by omega), nI_clamp (by omega), s1]
end PoolD
