/-! results: faults as (rule, place); frames by fields -/
section Res
set_option maxRecDepth 100000
abbrev FE (α : Type) : Type := Except (Nat × Nat) α
def eb {α β : Type} (x : FE α) (f : α → FE β) : FE β := match x with
  | .ok a => f a
  | .error e => .error e
theorem eb_ok {α β : Type} {a : α} {f : α → FE β} : eb (.ok a) f = f a := rfl
theorem eb_er {α β : Type} {e : Nat × Nat} {f : α → FE β} : eb (.error e : FE α) f = .error e := rfl
/-- an item of k bytes at p -/
def itS (n p k : Nat) : FE Unit := if n < p + k then .error (1, p) else .ok ()
theorem itS_ok {n p k : Nat} {u : Unit} (h : itS n p k = .ok u) : p + k ≤ n := by
  unfold itS at h
  split at h
  · cases h
  · omega
/-- the twin: what may have changed -/
def mfr (L A : List Nat) (σ σ' : SM) : Prop := (∀ k, k ∉ L → σ'.1 k = σ.1 k) ∧ (∀ k, k ∉ A → σ'.2 k = σ.2 k)
theorem mfr.rf {L A : List Nat} {σ : SM} : mfr L A σ σ := ⟨fun _ _ => rfl, fun _ _ => rfl⟩
theorem mfr.tr {L A : List Nat} {σ σ1 σ2 : SM} (h : mfr L A σ σ1) (h2 : mfr L A σ1 σ2) : mfr L A σ σ2 :=
  ⟨fun k hk => (h2.1 k hk).trans (h.1 k hk), fun k hk => (h2.2 k hk).trans (h.2 k hk)⟩
theorem mfr.mo {L A L' A' : List Nat} {σ σ1 : SM} (h : mfr L A σ σ1) (h1 : ∀ k, k ∈ L → k ∈ L') (h2 : ∀ k, k ∈ A → k ∈ A') : mfr L' A' σ σ1 :=
  ⟨fun k hk => h.1 k (fun q => hk (h1 k q)), fun k hk => h.2 k (fun q => hk (h2 k q))⟩
theorem mfr.sf {L A : List Nat} {σ : SM} {k : Nat} {v : Int32} (h : k ∈ L) : mfr L A σ (sf σ k v) :=
  ⟨fun j hj => by
    have : j ≠ k := fun e => hj (e ▸ h)
    show upd σ.1 k v j = _
    unfold upd
    rw [if_neg this], fun _ _ => rfl⟩
theorem sf_eq {σ : SM} {k : Nat} {v : Int32} : (sf σ k v).1 k = v := by
  show upd σ.1 k v k = v
  unfold upd
  rw [if_pos rfl]
theorem sf_ne {σ : SM} {k j : Nat} {v : Int32} (h : j ≠ k) : (sf σ k v).1 j = σ.1 j := by
  show upd σ.1 k v j = _
  unfold upd
  rw [if_neg h]
theorem sa_1 {σ : SM} {k i : Nat} {v : Int32} : (sa σ k i v).1 = σ.1 := rfl
theorem sf_2 {σ : SM} {k : Nat} {v : Int32} : (sf σ k v).2 = σ.2 := rfl
theorem sa_eq {σ : SM} {k i : Nat} {v : Int32} : (sa σ k i v).2 k i = v := by
  show (if k = k then upd (σ.2 k) i v else σ.2 k) i = v
  rw [if_pos rfl]
  unfold upd
  rw [if_pos rfl]
theorem sa_ne {σ : SM} {k i j : Nat} {v : Int32} (h : j ≠ i) : (sa σ k i v).2 k j = σ.2 k j := by
  show (if k = k then upd (σ.2 k) i v else σ.2 k) j = _
  rw [if_pos rfl]
  unfold upd
  rw [if_neg h]
theorem sa_nk {σ : SM} {k i q : Nat} {v : Int32} (h : q ≠ k) : (sa σ k i v).2 q = σ.2 q := by
  show (if q = k then upd (σ.2 k) i v else σ.2 q) = _
  rw [if_neg h]
theorem mfr.sa {L A : List Nat} {σ : SM} {k i : Nat} {v : Int32} (h : k ∈ A) : mfr L A σ (sa σ k i v) :=
  ⟨fun _ _ => rfl, fun j hj => sa_nk (fun e => hj (e ▸ h))⟩
theorem mfr.mF {L A : List Nat} {σ σ1 : SM} {F : Nat → Int32} {n : Nat} (h : mfr L A σ σ1) (hF : mF F n σ) (h1 : 49 ∉ L) (h2 : 16 ∉ L) (h3 : 12 ∉ A) : mF F n σ1 :=
  ⟨(h.1 49 h1).trans hF.1, (h.1 16 h2).trans hF.2.1, hF.2.2.1, fun i hi => by rw [h.2 12 h3]; exact hF.2.2.2 i hi⟩
def mwr (σ : SM) (r p : Nat) : SM := sf (sf σ 47 (nI r)) 48 (nI p)
theorem m_wrong_ok {σ : SM} {r p : Nat} : m_wrong σ (nI r) (nI p) = some (0, mwr σ r p) := rfl
def mRes {α : Type} (L A : List Nat) (E : FE α) (Q : α → SM → Prop) (σ : SM) (o : Option (Int32 × SM)) : Prop := match E with
  | .error e => ∃ σ', o = some (0, σ') ∧ σ'.1 47 = nI e.1 ∧ σ'.1 48 = nI e.2 ∧ mfr L A σ σ'
  | .ok a => ∃ σ', o = some (1, σ') ∧ Q a σ' ∧ mfr L A σ σ'
theorem mRes.fr {α : Type} {L A : List Nat} {E : FE α} {Q : α → SM → Prop} {σ σ1 : SM} {o : Option (Int32 × SM)} (h : mfr L A σ σ1) (k : mRes L A E Q σ1 o) : mRes L A E Q σ o := by
  cases E with
  | error e =>
    obtain ⟨s, k1, k2, k3, k4⟩ := k
    exact ⟨s, k1, k2, k3, h.tr k4⟩
  | ok a =>
    obtain ⟨s, k1, k2, k3⟩ := k
    exact ⟨s, k1, k2, h.tr k3⟩
theorem mRes.mo {α : Type} {L A L' A' : List Nat} {E : FE α} {Q Q' : α → SM → Prop} {σ : SM} {o : Option (Int32 × SM)} (k : mRes L A E Q σ o) (h1 : ∀ k, k ∈ L → k ∈ L') (h2 : ∀ k, k ∈ A → k ∈ A') (hq : ∀ a σ', E = .ok a → Q a σ' → mfr L A σ σ' → Q' a σ') : mRes L' A' E Q' σ o := by
  cases E with
  | error e =>
    obtain ⟨s, k1, k2, k3, k4⟩ := k
    exact ⟨s, k1, k2, k3, k4.mo h1 h2⟩
  | ok a =>
    obtain ⟨s, k1, k2, k3⟩ := k
    exact ⟨s, k1, hq a s rfl k2 k3, k3.mo h1 h2⟩
theorem mRes.bnd {α β : Type} {L A : List Nat} {E : FE α} {f : α → FE β} {Q1 : α → SM → Prop} {Q : β → SM → Prop} {σ : SM} {o : Option (Int32 × SM)} {G : Int32 × SM → Option (Int32 × SM)} (h : mRes L A E Q1 σ o) (k : ∀ a σ1, E = .ok a → Q1 a σ1 → mfr L A σ σ1 → mRes L A (f a) Q σ1 (G (1, σ1))) : mRes L A (eb E f) Q σ (o.bind fun r => if r.1 = 0 then some ((0 : Int32), r.2) else G r) := by
  cases E with
  | error e =>
    obtain ⟨s, k1, k2, k3, k4⟩ := h
    refine ⟨s, ?_, k2, k3, k4⟩
    rw [k1]
    rfl
  | ok a =>
    obtain ⟨s, k1, k2, k3⟩ := h
    have := (k a s rfl k2 k3).fr k3
    rw [k1]
    exact this
theorem mRes.er {α : Type} {L A : List Nat} {Q : α → SM → Prop} {σ : SM} {r p : Nat} (h1 : 47 ∈ L) (h2 : 48 ∈ L) : mRes L A (.error (r, p) : FE α) Q σ (some (0, mwr σ r p)) :=
  ⟨_, rfl, (sf_ne (by decide)).trans sf_eq, sf_eq, (mfr.sf h1).tr (mfr.sf h2)⟩
theorem mRes.ok {α : Type} {L A : List Nat} {Q : α → SM → Prop} {σ : SM} {a : α} (h : Q a σ) : mRes L A (.ok a : FE α) Q σ (some (1, σ)) :=
  ⟨_, rfl, h, mfr.rf⟩
theorem lN_tI {a : Nat} (ha : a < 2 ^ 63) : (lN a).toInt = a := Int64.toInt_ofNat_of_lt ha
theorem cmp_le {a b : Nat} (ha : a < 2 ^ 63) (hb : b < 2 ^ 63) : lg_cmp (lN a) (lN b) ≤ 0 ↔ a ≤ b := by
  rw [lg_cmp_le, Int64.le_iff_toInt_le, lN_tI ha, lN_tI hb]
  omega
theorem lN_eq6 {a b : Nat} (ha : a < 2 ^ 63) (hb : b < 2 ^ 63) : lN a = lN b ↔ a = b := by
  rw [← Int64.toInt_inj, lN_tI ha, lN_tI hb]
  omega
theorem cmp_lt {a b : Nat} (ha : a < 2 ^ 63) (hb : b < 2 ^ 63) : lg_cmp (lN a) (lN b) < 0 ↔ a < b := by
  rw [lg_cmp_lt, Int64.lt_iff_toInt_lt, lN_tI ha, lN_tI hb]
  omega
theorem cmp_eq {a b : Nat} (ha : a < 2 ^ 63) (hb : b < 2 ^ 63) : lg_cmp (lN a) (lN b) = 0 ↔ a = b := by
  have e : lg_cmp (lN a) (lN b) = 0 ↔ lN a = lN b := by
    unfold lg_cmp
    by_cases h : lN a > lN b
    · rw [if_pos h]
      exact ⟨fun q => absurd q (by decide), fun q => absurd h (by rw [q]; exact Int64.lt_irrefl)⟩
    · rw [if_neg h]
      by_cases h2 : lN a = lN b
      · rw [if_pos h2]
        exact ⟨fun _ => h2, fun _ => rfl⟩
      · rw [if_neg h2]
        exact ⟨fun q => absurd q (by decide), fun q => absurd q h2⟩
  rw [e, lN_eq6 ha hb]
theorem m_item_ok {L A : List Nat} {F : Nat → Int32} {n p k : Nat} {σ : SM} (hF : mF F n σ) (hp : σ.1 50 = nI p) (hpn : p ≤ 200000) (hk : k < 2 ^ 32) (h1 : 47 ∈ L) (h2 : 48 ∈ L) : mRes L A (itS n p k) (fun _ σ' => σ' = σ) σ (m_item σ (lN k)) := by
  obtain ⟨f1, f2, f3, f4⟩ := hF
  unfold m_item m_item_0 m_item_28 itS
  rw [hp, f2, nI_l (by omega), nI_l (by omega), lN_add]
  by_cases h : n < p + k
  · rw [if_pos h, if_neg (by rw [cmp_le (by omega) (by omega)]; omega), show (1 : Int32) = nI 1 from rfl, m_wrong_ok]
    exact mRes.er h1 h2
  · rw [if_neg h, if_pos (by rw [cmp_le (by omega) (by omega)]; omega)]
    exact mRes.ok rfl
end Res
