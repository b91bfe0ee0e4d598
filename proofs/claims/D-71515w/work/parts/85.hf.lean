/-! what a part's nodes hold, in a row -/
def hf (R : Nat → Int) (t : TT) (S : Nat → Bool) : List Int := (hl R t S).filter (fun v => decide (v ≠ -4))
theorem hf_mem {R : Nat → Int} {t : TT} {S : Nat → Bool} (hN : (tl t).Nodup) (j : Nat) : (j : Int) ∈ hf R t S ↔ (j ∈ tl t ∧ S j = true) := by
  have hc := hl_count R j t S hN
  unfold hf
  rw [List.mem_filter]
  constructor
  · rintro ⟨h, _⟩
    refine Classical.byContradiction (fun hn => ?_)
    have := hc.2 hn
    rw [List.count_eq_zero] at this
    exact this h
  · intro h
    have := hc.1 h.1 h.2
    exact ⟨List.count_pos_iff.mp (by omega), by simp⟩
theorem hf_in {R : Nat → Int} {t : TT} {S : Nat → Bool} : ∀ w ∈ hf R t S, ∃ j : Nat, w = (j : Int) ∧ j ∈ tl t ∧ S j = true := by
  intro w hw
  unfold hf at hw
  rw [List.mem_filter] at hw
  rcases hl_in R t S w hw.1 with q | ⟨j, q1, q2, q3⟩
  · simp [q] at hw
  · exact ⟨j, q2, q1, q3⟩
theorem hf_nd {R : Nat → Int} {t : TT} {S : Nat → Bool} (hN : (tl t).Nodup) : (hf R t S).Nodup := by
  rw [List.nodup_iff_count]
  intro w
  by_cases hw : w ∈ hf R t S
  · obtain ⟨j, q1, q2, q3⟩ := hf_in w hw
    have h1 := (hl_count R j t S hN).1 q2 q3
    have h2 : (hf R t S).count w ≤ (hl R t S).count w := List.Sublist.count_le w List.filter_sublist
    rw [q1] at h2 ⊢
    omega
  · rw [List.count_eq_zero.mpr hw]
    omega
theorem hf_len {R : Nat → Int} {t : TT} {S : Nat → Bool} (hN : (tl t).Nodup) : (hf R t S).length ≤ (tl t).length := by
  have hnd := hf_nd (R := R) (S := S) hN
  have h1 : ((hf R t S).map Int.toNat).Nodup := by
    refine (List.pairwise_map).mpr ?_
    refine List.Pairwise.imp_of_mem (R := fun a b => a ≠ b) ?_ hnd
    intro p q hp hq hne e
    obtain ⟨j1, w1, _⟩ := hf_in p hp
    obtain ⟨j2, w2, _⟩ := hf_in q hq
    omega
  have h2 := nd_perm (L := (hf R t S).map Int.toNat) (M := (tl t).filter S) h1 (hN.sublist List.filter_sublist) (fun i => by
    rw [List.mem_map, List.mem_filter]
    constructor
    · rintro ⟨w, hw, e⟩
      obtain ⟨j, q1, q2, q3⟩ := hf_in w hw
      have : j = i := by omega
      subst this
      exact ⟨q2, q3⟩
    · intro q
      exact ⟨(i : Int), (hf_mem hN i).mpr q, by simp⟩)
  have h3 := h2.length_eq
  have h4 := List.length_filter_le S (tl t)
  simp at h3
  omega
theorem hf_leaf (R : Nat → Int) (j : Nat) (S : Nat → Bool) : hf R (.leaf j) S = if bst R S [j] = -4 then [] else [bst R S [j]] := by
  unfold hf hl
  by_cases h : bst R S [j] = -4 <;> simp [h]
theorem hf_br (R : Nat → Int) (s : Nat) (a b : TT) (S : Nat → Bool) : hf R (.branch s a b) S = (if bst R S (tl a ++ tl b) = -4 then [] else [bst R S (tl a ++ tl b)]) ++ (hf R a (wo S (bst R S (tl a ++ tl b))) ++ hf R b (wo S (bst R S (tl a ++ tl b)))) := by
  unfold hf
  simp only [hl]
  by_cases h : bst R S (tl a ++ tl b) = -4 <;> simp [h]
def rmv (us ns : List Nat) : List Nat := us.filter (fun z => !ns.contains z)
theorem rmv_mem {us ns : List Nat} {z : Nat} : z ∈ rmv us ns ↔ z ∈ us ∧ z ∉ ns := by
  unfold rmv
  rw [List.mem_filter]
  simp
theorem rmv_nd {us ns : List Nat} (h : us.Nodup) : (rmv us ns).Nodup := h.sublist List.filter_sublist
theorem rmv_len {us ns : List Nat} (h : us.Nodup) (hn : ns.Nodup) (hs : ∀ z ∈ ns, z ∈ us) : (rmv us ns).length + ns.length = us.length := by
  have := nd_perm (L := rmv us ns ++ ns) (M := us) (List.nodup_append.mpr ⟨rmv_nd h, hn, fun a ha b hb e => (rmv_mem.mp ha).2 (e ▸ hb)⟩) h (fun z => by
    rw [List.mem_append, rmv_mem]
    constructor
    · rintro (q | q)
      · exact q.1
      · exact hs z q
    · intro q
      by_cases e : z ∈ ns
      · exact Or.inr e
      · exact Or.inl ⟨q, e⟩)
  have h2 := this.length_eq
  rw [List.length_append] at h2
  exact h2
