/-! a place in a State's tree: what stands there may be put anew -/
def SmP (pa : Option (Nat × Bool)) (y' : Nat) (σ σ' : Nat → Nat → Int) (z : Nat) : Prop := ∀ f, 21 ≤ f → f ≤ 26 → σ' f z = if pa = some (z, true) ∧ f = 21 then (y' : Int) else if pa = some (z, false) ∧ f = 22 then (y' : Int) else σ f z
def PaOk (σ : Nat → Nat → Int) : Option (Nat × Bool) → Nat → Prop
  | none, _ => True
  | some (p, true), y => σ 21 p = (y : Int)
  | some (p, false), y => σ 22 p = (y : Int) ∧ ∃ z : Nat, z < 23 ∧ σ 21 p = (z : Int) ∧ z ≠ y
def Cl (T σ : Nat → Nat → Int) (δ : Int) (x : Nat) (S0 : Nat → Bool) (C : TT → TT) (pre post : List Nat) (pa : Option (Nat × Bool)) (u : TT) (S : Nat → Bool) : Prop :=
  ∀ σ' u' y' nu', (∀ z ∈ pre ++ post, SmP pa y' σ σ' z) → ((tl u').length : Int) = (tl u).length + δ → (∀ i, S0 i = true → (i ∈ tl u' ↔ i ∈ tl u)) → RC T σ' u' y' S nu' → RC T σ' (C u') (if pa = none then y' else x) S0 (pre ++ nu' ++ post)
def Foc (T σ : Nat → Nat → Int) (δ : Int) (x : Nat) (S0 : Nat → Bool) (C : TT → TT) (pre post : List Nat) (pa : Option (Nat × Bool)) (u : TT) (y : Nat) (S : Nat → Bool) (nu : List Nat) : Prop :=
  RC T σ u y S nu ∧ (pre ++ nu ++ post).Nodup ∧ PaOk σ pa y ∧ (pa = none → y = x) ∧ (∀ i, S i = true → S0 i = true) ∧ Cl T σ δ x S0 C pre post pa u S ∧ ∀ p b, pa = some (p, b) → p ∈ pre
theorem Foc.top {T σ : Nat → Nat → Int} {δ : Int} {x : Nat} {S0 : Nat → Bool} {t : TT} {ns : List Nat} (h : RC T σ t x S0 ns) (hn : ns.Nodup) : Foc T σ δ x S0 (fun u => u) [] [] none t x S0 ns := by
  refine ⟨h, by simpa using hn, trivial, fun _ => rfl, fun _ q => q, ?_, fun p b q => by cases q⟩
  intro σ' u' y' nu' _ _ _ hr
  simpa using hr
theorem SmP.z {σ σ' : Nat → Nat → Int} {pa : Option (Nat × Bool)} {y' z : Nat} (h : SmP pa y' σ σ' z) (hp : ∀ b, pa ≠ some (z, b)) : SmN σ σ' z := fun f h1 h2 => by
  rw [h f h1 h2, if_neg (fun q => hp true q.1), if_neg (fun q => hp false q.1)]
theorem PaOk.same {σ : Nat → Nat → Int} {pa : Option (Nat × Bool)} {y z : Nat} (h : PaOk σ pa y) : SmP pa y σ σ z := by
  intro f _ _
  split
  · rename_i q
    obtain ⟨q1, q2⟩ := q
    subst q1; subst q2
    exact h
  · split
    · rename_i q
      obtain ⟨q1, q2⟩ := q
      subst q1; subst q2
      exact h.1
    · rfl
theorem SmP.tr {σ σ1 σ' : Nat → Nat → Int} {pa : Option (Nat × Bool)} {y z : Nat} (h : PaOk σ pa y) (hs : SmN σ σ' z) : SmP pa y σ σ' z := by
  intro f h1 h2
  rw [hs f h1 h2]
  exact h.same (z := z) f h1 h2
theorem nd_mid {pre r post : List Nat} {y : Nat} (h : (pre ++ y :: r ++ post).Nodup) : y ∉ pre ∧ y ∉ r ∧ y ∉ post := by
  rw [List.append_assoc, List.cons_append, List.perm_middle.nodup_iff] at h
  have := (List.nodup_cons.mp h).1
  simp at this
  exact this
theorem nd_in {pre r post : List Nat} (h : (pre ++ r ++ post).Nodup) : r.Nodup := (List.nodup_append.mp (List.nodup_append.mp h).1).2.1
section FOC
variable {T σ σ2 : Nat → Nat → Int} {δ : Int} {x : Nat} {S0 : Nat → Bool} {C : TT → TT} {pre post : List Nat} {pa : Option (Nat × Bool)} {κ : Nat} {a b : TT} {y : Nat} {S : Nat → Bool} {nu : List Nat} {xa xb : Nat} {na nb : List Nat}
theorem Foc.left (F : Foc T σ δ x S0 C pre post pa (.branch κ a b) y S nu) (e : nu = y :: (na ++ nb)) (h1 : y < 23) (h2 : σ 21 y = (xa : Int)) (h3 : σ 22 y = (xb : Int)) (h4 : (κ : Int) = 16 * σ 23 y + σ 24 y ∧ (0 ≤ σ 24 y ∧ σ 24 y < 12) ∧ 0 ≤ σ 23 y ∧ σ 23 y ≤ 99) (h5 : σ 26 y = ((tl a).length + (tl b).length : Int)) (h6 : σ 25 y = bst (rkT T) S (tl a ++ tl b)) (h7 : RC T σ a xa (wo S (bst (rkT T) S (tl a ++ tl b))) na) (h8 : RC T σ b xb (wo S (bst (rkT T) S (tl a ++ tl b))) nb)
    (e1 : σ2 26 y = σ 26 y + δ) (e2 : ∀ f z, ¬ (f = 26 ∧ z = y) → σ2 f z = σ f z) : Foc T σ2 δ x S0 (fun v => C (.branch κ v b)) (pre ++ [y]) (nb ++ post) (some (y, true)) a xa (wo S (bst (rkT T) S (tl a ++ tl b))) na := by
  obtain ⟨f1, f2, f3, f4, f5, f6, f7⟩ := F
  rw [e] at f2
  have hn : (pre ++ [y] ++ na ++ (nb ++ post)).Nodup := by simpa using f2
  have hyn : y ∉ pre ∧ y ∉ na ∧ y ∉ nb ∧ y ∉ post := by
    obtain ⟨q1, q2, q3⟩ := nd_mid f2
    exact ⟨q1, fun q => q2 (List.mem_append_left _ q), fun q => q2 (List.mem_append_right _ q), q3⟩
  have hs2 : ∀ z, z ≠ y → SmN σ σ2 z := fun z hz f _ _ => e2 f z (fun q => hz q.2)
  refine ⟨h7.cg (fun z hz => hs2 z (fun q => hyn.2.1 (q ▸ hz))), hn, by show σ2 21 y = _; rw [e2 _ _ (by omega)]; exact h2, fun q => (by cases q), fun i q => f5 i (wo_le q), ?_, fun p b q => (by cases q; simp)⟩
  intro σ' u' y' nu' hs hl ha hr
  have hsy := hs y (by simp)
  have hsz : ∀ z ∈ pre ++ [y] ++ (nb ++ post), z ≠ y → SmN σ σ' z := fun z hz hzy f q1 q2 => by
    rw [(hs z hz).z (fun b q => by cases q; exact hzy rfl) f q1 q2]
    exact hs2 z hzy f q1 q2
  have hbm : bst (rkT T) S (tl u' ++ tl b) = bst (rkT T) S (tl a ++ tl b) := bst_m (fun j => by
    simp only [List.mem_append]
    constructor
    · rintro ⟨q | q, qs⟩
      · exact ⟨Or.inl ((ha j (f5 j qs)).mp q), qs⟩
      · exact ⟨Or.inr q, qs⟩
    · rintro ⟨q | q, qs⟩
      · exact ⟨Or.inl ((ha j (f5 j qs)).mpr q), qs⟩
      · exact ⟨Or.inr q, qs⟩) (fun _ _ _ => rfl)
  have hB : RC T σ' (.branch κ u' b) y S (y :: (nu' ++ nb)) := by
    refine ⟨y', xb, nu', nb, rfl, h1, ?_, ?_, ?_, ?_, ?_, by rw [hbm]; exact hr, ?_⟩
    · rw [hsy 21 (by omega) (by omega), if_pos ⟨rfl, rfl⟩]
    · rw [hsy 22 (by omega) (by omega), if_neg (by omega), if_neg (fun q => (by cases q.1)), e2 _ _ (by omega)]; exact h3
    · rw [hsy 23 (by omega) (by omega), if_neg (by omega), if_neg (by omega), e2 _ _ (by omega), hsy 24 (by omega) (by omega), if_neg (by omega), if_neg (by omega), e2 _ _ (by omega)]; exact h4
    · rw [hsy 26 (by omega) (by omega), if_neg (by omega), if_neg (by omega), e1, h5]; omega
    · rw [hsy 25 (by omega) (by omega), if_neg (by omega), if_neg (by omega), e2 _ _ (by omega), h6, hbm]
    · rw [hbm]
      exact h8.cg (fun z hz => hsz z (by simp [hz]) (fun q => hyn.2.2.1 (q ▸ hz)))
  have := f6 σ' (.branch κ u' b) y (y :: (nu' ++ nb)) (fun z hz => ?_) ?_ ?_ hB
  · rw [if_neg (by simp)]
    have ex : (if pa = none then y else x) = x := by
      split
      · rename_i q; exact f4 q
      · rfl
    rw [ex] at this
    simpa using this
  · refine SmP.tr (σ1 := σ) f3 (hsz z ?_ (fun q => ?_))
    · rcases List.mem_append.mp hz with w | w <;> simp [w]
    · subst q
      rcases List.mem_append.mp hz with w | w
      · exact hyn.1 w
      · exact hyn.2.2.2 w
  · simp only [tl, List.length_append, Int.natCast_add]
    omega
  · intro i hi
    have := ha i hi
    simp only [tl, List.mem_append, this]
theorem Foc.right (F : Foc T σ δ x S0 C pre post pa (.branch κ a b) y S nu) (e : nu = y :: (na ++ nb)) (h1 : y < 23) (h2 : σ 21 y = (xa : Int)) (h3 : σ 22 y = (xb : Int)) (h4 : (κ : Int) = 16 * σ 23 y + σ 24 y ∧ (0 ≤ σ 24 y ∧ σ 24 y < 12) ∧ 0 ≤ σ 23 y ∧ σ 23 y ≤ 99) (h5 : σ 26 y = ((tl a).length + (tl b).length : Int)) (h6 : σ 25 y = bst (rkT T) S (tl a ++ tl b)) (h7 : RC T σ a xa (wo S (bst (rkT T) S (tl a ++ tl b))) na) (h8 : RC T σ b xb (wo S (bst (rkT T) S (tl a ++ tl b))) nb)
    (e1 : σ2 26 y = σ 26 y + δ) (e2 : ∀ f z, ¬ (f = 26 ∧ z = y) → σ2 f z = σ f z) : Foc T σ2 δ x S0 (fun v => C (.branch κ a v)) (pre ++ y :: na) post (some (y, false)) b xb (wo S (bst (rkT T) S (tl a ++ tl b))) nb := by
  obtain ⟨f1, f2, f3, f4, f5, f6, f7⟩ := F
  rw [e] at f2
  have hn : (pre ++ y :: na ++ nb ++ post).Nodup := by simpa using f2
  have hyn : y ∉ pre ∧ y ∉ na ∧ y ∉ nb ∧ y ∉ post := by
    obtain ⟨q1, q2, q3⟩ := nd_mid f2
    exact ⟨q1, fun q => q2 (List.mem_append_left _ q), fun q => q2 (List.mem_append_right _ q), q3⟩
  have hab : xa ≠ xb := fun q => by
    have h9 := h7.me
    have h10 := h8.me
    rw [q] at h9
    exact nd_app (List.nodup_cons.mp (nd_in f2)).2 h9 h10
  have hs2 : ∀ z, z ≠ y → SmN σ σ2 z := fun z hz f _ _ => e2 f z (fun q => hz q.2)
  refine ⟨h8.cg (fun z hz => hs2 z (fun q => hyn.2.2.1 (q ▸ hz))), hn, by show σ2 22 y = _ ∧ ∃ z : Nat, z < 23 ∧ σ2 21 y = _ ∧ z ≠ _; rw [e2 _ _ (by omega), e2 _ _ (by omega)]; exact ⟨h3, xa, h7.lt, h2, hab⟩, fun q => (by cases q), fun i q => f5 i (wo_le q), ?_, fun p b q => (by cases q; simp)⟩
  intro σ' u' y' nu' hs hl ha hr
  have hsy := hs y (by simp)
  have hsz : ∀ z ∈ pre ++ y :: na ++ post, z ≠ y → SmN σ σ' z := fun z hz hzy f q1 q2 => by
    rw [(hs z hz).z (fun b q => by cases q; exact hzy rfl) f q1 q2]
    exact hs2 z hzy f q1 q2
  have hbm : bst (rkT T) S (tl a ++ tl u') = bst (rkT T) S (tl a ++ tl b) := bst_m (fun j => by
    simp only [List.mem_append]
    constructor
    · rintro ⟨q | q, qs⟩
      · exact ⟨Or.inl q, qs⟩
      · exact ⟨Or.inr ((ha j (f5 j qs)).mp q), qs⟩
    · rintro ⟨q | q, qs⟩
      · exact ⟨Or.inl q, qs⟩
      · exact ⟨Or.inr ((ha j (f5 j qs)).mpr q), qs⟩) (fun _ _ _ => rfl)
  have hB : RC T σ' (.branch κ a u') y S (y :: (na ++ nu')) := by
    refine ⟨xa, y', na, nu', rfl, h1, ?_, ?_, ?_, ?_, ?_, ?_, by rw [hbm]; exact hr⟩
    · rw [hsy 21 (by omega) (by omega), if_neg (fun q => (by cases q.1)), if_neg (by omega), e2 _ _ (by omega)]; exact h2
    · rw [hsy 22 (by omega) (by omega), if_neg (by omega), if_pos ⟨rfl, rfl⟩]
    · rw [hsy 23 (by omega) (by omega), if_neg (by omega), if_neg (by omega), e2 _ _ (by omega), hsy 24 (by omega) (by omega), if_neg (by omega), if_neg (by omega), e2 _ _ (by omega)]; exact h4
    · rw [hsy 26 (by omega) (by omega), if_neg (by omega), if_neg (by omega), e1, h5]; omega
    · rw [hsy 25 (by omega) (by omega), if_neg (by omega), if_neg (by omega), e2 _ _ (by omega), h6, hbm]
    · rw [hbm]
      exact h7.cg (fun z hz => hsz z (by simp [hz]) (fun q => hyn.2.1 (q ▸ hz)))
  have := f6 σ' (.branch κ a u') y (y :: (na ++ nu')) (fun z hz => ?_) ?_ ?_ hB
  · rw [if_neg (by simp)]
    have ex : (if pa = none then y else x) = x := by
      split
      · rename_i q; exact f4 q
      · rfl
    rw [ex] at this
    simpa using this
  · refine SmP.tr (σ1 := σ) f3 (hsz z ?_ (fun q => ?_))
    · rcases List.mem_append.mp hz with w | w <;> simp [w]
    · subst q
      rcases List.mem_append.mp hz with w | w
      · exact hyn.1 w
      · exact hyn.2.2.2 w
  · simp only [tl, List.length_append, Int.natCast_add]
    omega
  · intro i hi
    have := ha i hi
    simp only [tl, List.mem_append, this]
end FOC
