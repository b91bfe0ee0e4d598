/-! soonest as the component seeks it, and first: the same answers -/
def lfO (st : Nat → Int) (u v : Int) : Int := if u = -4 ∨ v = -4 then max u v else if st u.toNat < st v.toNat ∨ st u.toNat = st v.toNat ∧ u < v then u else v
theorem lfO_is {st : Nat → Int} {P Q : Nat → Prop} {u v : Int} (hu : IsB st P u) (hv : IsB st Q v) (hd : ∀ j, P j → ¬ Q j) : IsB st (fun j => P j ∨ Q j) (lfO st u v) := by
  unfold lfO
  rcases hu with ⟨e, h⟩ | ⟨i, e, h1, h2⟩
  · rw [if_pos (Or.inl e)]
    have hm : max u v = v := by rcases hv.in with q | ⟨j, q, _⟩ <;> omega
    rw [hm]
    exact hv.cg (fun j => ⟨Or.inr, fun q => q.resolve_left (h j)⟩)
  · rcases hv with ⟨e', h'⟩ | ⟨j, e', h1', h2'⟩
    · rw [if_pos (Or.inr e'), show max u v = u by omega]
      exact Or.inr ⟨i, e, Or.inl h1, fun q hq hn => h2 q (hq.resolve_right (h' q)) hn⟩
    · rw [if_neg (by omega)]
      have e1 : u.toNat = i := by omega
      have e2 : v.toNat = j := by omega
      have hne : i ≠ j := fun q => hd i h1 (q ▸ h1')
      rw [e1, e2]
      split
      · rename_i hc
        refine Or.inr ⟨i, e, Or.inl h1, fun q hq hn => ?_⟩
        rcases hq with hq | hq
        · exact h2 q hq hn
        · by_cases e3 : q = j
          · rw [e3]; unfold ahd; omega
          · have := h2' q hq e3
            unfold ahd at this ⊢
            omega
      · rename_i hc
        refine Or.inr ⟨j, e', Or.inr h1', fun q hq hn => ?_⟩
        rcases hq with hq | hq
        · by_cases e3 : q = i
          · rw [e3]; unfold ahd; omega
          · have := h2 q hq e3
            unfold ahd at this ⊢
            omega
        · exact h2' q hq hn
/-- what soonestOf gives -/
def sof (R st : Nat → Int) (κ : Nat → Nat) (a u : Int) : TT → (Nat → Bool) → Int
  | .leaf j, S => if bst R S [j] = -4 ∨ u < R (bst R S [j]).toNat then -4 else if a ≤ st (bst R S [j]).toNat then bst R S [j] else -4
  | .branch s x y, S => if bst R S (tl x ++ tl y) = -4 ∨ u < R (bst R S (tl x ++ tl y)).toNat then -4 else
      let b1 := lfO st (if a ≤ st (bst R S (tl x ++ tl y)).toNat then bst R S (tl x ++ tl y) else -4) (if a ≤ ((s / 16 : Nat) : Int) then sof R st κ a u x (wo S (bst R S (tl x ++ tl y))) else -4)
      if b1 ≠ -4 ∧ κ b1.toNat ≤ s then b1 else lfO st b1 (sof R st κ a u y (wo S (bst R S (tl x ++ tl y))))
theorem sof_no {R st : Nat → Int} {a u : Int} {L : List Nat} {S : Nat → Bool} (h : bst R S L = -4 ∨ u < R (bst R S L).toNat) : IsB st (fun j => j ∈ L ∧ S j = true ∧ a ≤ st j ∧ R j ≤ u) (-4) := by
  refine Or.inl ⟨rfl, fun j hj => ?_⟩
  rcases bst_spec R S L with ⟨e, q⟩ | ⟨i, e, h1, h2⟩
  · exact q j ⟨hj.1, hj.2.1⟩
  · rw [e] at h
    simp at h
    by_cases e2 : j = i
    · subst e2
      have := hj.2.2.2
      omega
    · have := h2 j ⟨hj.1, hj.2.1⟩ e2
      have h4 := hj.2.2.2
      unfold ahd at this
      omega
theorem sof_is {T : Nat → Nat → Int} {R : Nat → Int} {a u : Int} : ∀ (t : TT) (S : Nat → Bool), OrdT (keyT T) t → (tl t).Nodup → (∀ j ∈ tl t, j < 12 ∧ 0 ≤ T 2 j) → IsB (T 2) (fun j => j ∈ tl t ∧ S j = true ∧ a ≤ T 2 j ∧ R j ≤ u) (sof R (T 2) (keyT T) a u t S)
  | .leaf j, S, _, _, _ => by
    simp only [sof]
    split
    · rename_i h
      exact sof_no (L := tl (.leaf j)) h
    · rename_i h
      obtain ⟨i, e, h1, h2⟩ := bst_nat (R := R) (S := S) (L := [j]) (fun q => h (Or.inl q))
      have e2 : i = j := by simpa using h1
      subst e2
      rw [e] at h ⊢
      simp at h ⊢
      split
      · rename_i hc
        exact Or.inr ⟨i, rfl, ⟨by simp [tl], h2, hc, h⟩, fun q hq hn => absurd (by simpa [tl] using hq.1) hn⟩
      · rename_i hc
        refine Or.inl ⟨rfl, fun q hq => ?_⟩
        have : q = i := by simpa [tl] using hq.1
        subst this
        exact hc hq.2.2.1
  | .branch s x y, S, hO, hN, hJ => by
    simp only [sof]
    split
    · rename_i h
      exact sof_no (L := tl (.branch s x y)) h
    · rename_i h
      obtain ⟨i, e, h1, h2⟩ := bst_nat (R := R) (S := S) (L := tl x ++ tl y) (fun q => h (Or.inl q))
      rw [e] at h ⊢
      simp only [Int.toNat_natCast] at h ⊢
      obtain ⟨o1, o2, _, _, o5, o6⟩ := hO
      have hN' := List.nodup_append.mp hN
      have hJ : ∀ j ∈ tl x ++ tl y, j < 12 ∧ 0 ≤ T 2 j := hJ
      have ix := sof_is (R := R) (a := a) (u := u) x (wo S (i : Int)) o5 hN'.1 (fun j hj => hJ j (List.mem_append_left _ hj))
      have iy := sof_is (R := R) (a := a) (u := u) y (wo S (i : Int)) o6 hN'.2.1 (fun j hj => hJ j (List.mem_append_right _ hj))
      have hi : R i ≤ u := by omega
      have k0 : IsB (T 2) (fun j => j = i ∧ a ≤ T 2 j) (if a ≤ T 2 i then (i : Int) else -4) := by
        split
        · rename_i hc
          exact Or.inr ⟨i, rfl, ⟨rfl, hc⟩, fun q hq hn => absurd hq.1 hn⟩
        · rename_i hc
          exact Or.inl ⟨rfl, fun q hq => hc (hq.1 ▸ hq.2)⟩
      have k1 : IsB (T 2) (fun j => j ∈ tl x ∧ wo S (i : Int) j = true ∧ a ≤ T 2 j ∧ R j ≤ u) (if a ≤ ((s / 16 : Nat) : Int) then sof R (T 2) (keyT T) a u x (wo S (i : Int)) else -4) := by
        split
        · exact ix
        · rename_i hc
          refine Or.inl ⟨rfl, fun q hq => ?_⟩
          have h3 := o1 q hq.1
          have h4 := hJ q (List.mem_append_left _ hq.1)
          have h5 := hq.2.2.1
          unfold keyT at h3
          omega
      have k2 := lfO_is k0 k1 (fun j q1 q2 => by
        have := q2.2.1
        rw [q1.1] at this
        unfold wo at this
        simp at this)
      obtain ⟨b1, hb1⟩ : ∃ b1, b1 = lfO (T 2) (if a ≤ T 2 i then (i : Int) else -4) (if a ≤ ((s / 16 : Nat) : Int) then sof R (T 2) (keyT T) a u x (wo S (i : Int)) else -4) := ⟨_, rfl⟩
      rw [← hb1] at k2 ⊢
      have hall : ∀ j, (j ∈ tl (.branch s x y) ∧ S j = true ∧ a ≤ T 2 j ∧ R j ≤ u) ↔ (((j = i ∧ a ≤ T 2 j) ∨ (j ∈ tl x ∧ wo S (i : Int) j = true ∧ a ≤ T 2 j ∧ R j ≤ u)) ∨ (j ∈ tl y ∧ wo S (i : Int) j = true ∧ a ≤ T 2 j ∧ R j ≤ u)) := by
        intro j
        show (j ∈ tl x ++ tl y ∧ _) ↔ _
        by_cases ej : j = i
        · subst ej
          have hw : wo S (j : Int) j = false := by unfold wo; simp
          simp only [hw, h1, h2]
          simp
          omega
        · rw [wo_oth (by omega)]
          simp only [List.mem_append, ej]
          simp
          constructor
          · rintro ⟨q | q, r⟩
            · exact Or.inl ⟨q, r⟩
            · exact Or.inr ⟨q, r⟩
          · rintro (⟨q, r⟩ | ⟨q, r⟩)
            · exact ⟨Or.inl q, r⟩
            · exact ⟨Or.inr q, r⟩
      refine IsB.cg ?_ (fun j => (hall j).symm)
      split
      · rename_i hc
        rcases k2 with ⟨e2, _⟩ | ⟨w, e2, w1, w2⟩
        · exact absurd e2 hc.1
        · refine Or.inr ⟨w, e2, Or.inl w1, fun q hq hn => ?_⟩
          rcases hq with hq | hq
          · exact w2 q hq hn
          · have h3 := o2 q hq.1
            have h4 := hc.2
            rw [e2] at h4
            simp at h4
            have hw12 : 0 ≤ T 2 w := by
              rcases w1 with ⟨q1, _⟩ | ⟨q1, _⟩
              · rw [q1]; exact (hJ i h1).2
              · exact (hJ w (List.mem_append_left _ q1)).2
            have h5 := hJ q (List.mem_append_right _ hq.1)
            have hw13 : w < 12 := by
              rcases w1 with ⟨q1, _⟩ | ⟨q1, _⟩
              · rw [q1]; exact (hJ i h1).1
              · exact (hJ w (List.mem_append_left _ q1)).1
            unfold keyT at h3 h4
            unfold ahd
            omega
      · refine lfO_is k2 iy (fun j q1 q2 => ?_)
        rcases q1 with ⟨q1, _⟩ | ⟨q1, _⟩
        · have := q2.2.1
          rw [q1] at this
          unfold wo at this
          simp at this
        · exact hN'.2.2 j q1 j q2.1 rfl
theorem sof_soon {v : VV} (hV : VOk v) (a u : Int) : sof (rkT v.2.1) (v.2.1 2) (keyT v.2.1) a u v.2.2 (fun _ => true) = qSoon v a u := by
  have h1 := sof_is (R := rkT v.2.1) (a := a) (u := u) v.2.2 (fun _ => true) hV.2.2 hV.2.1.2 (fun j hj => by
    have := (hV.2.1.1 j).mp hj
    exact ⟨tb12 hV.1.1 this, (hV.1.2 j this).2.1.1⟩)
  refine h1.uq ((bst_spec (v.2.1 2) (sooS v a u) (List.range 12)).cg (fun j => ?_))
  unfold sooS
  simp [hV.2.1.1 j]
  intro q _ _
  exact tb12 hV.1.1 q
/-- which are met: all that S tells, of a start from a to b, of a rank up to u -/
theorem lk_mem {T : Nat → Nat → Int} {R : Nat → Int} {a b u : Int} : ∀ (t : TT) (S : Nat → Bool), OrdT (keyT T) t → (tl t).Nodup → (∀ j ∈ tl t, j < 12 ∧ 0 ≤ T 2 j) → (lk R (T 2) a b u t S).2.Nodup ∧ (∀ w ∈ (lk R (T 2) a b u t S).2, ∃ j : Nat, w = (j : Int) ∧ j ∈ tl t ∧ S j = true) ∧ ∀ j : Nat, (j : Int) ∈ (lk R (T 2) a b u t S).2 ↔ (j ∈ tl t ∧ S j = true ∧ R j ≤ u ∧ a ≤ T 2 j ∧ T 2 j ≤ b)
  | .leaf j, S, _, _, _ => by
    simp only [lk]
    have hno := sof_no (R := R) (st := T 2) (a := -1000000) (u := u) (L := [j]) (S := S)
    split
    · rename_i h
      refine ⟨by simp, by simp, fun q => ?_⟩
      simp [tl]
      intro e h2 h3
      subst e
      rcases h with h | h
      · rw [bst_none h q (by simp)] at h2; cases h2
      · obtain ⟨i, e, h4, h5⟩ := bst_nat (R := R) (S := S) (L := [q]) (fun w => by rw [bst_none w q (by simp)] at h2; cases h2)
        have e2 : i = q := by simpa using h4
        rw [e, e2] at h
        simp at h
        omega
    · rename_i h
      obtain ⟨i, e, h1, h2⟩ := bst_nat (R := R) (S := S) (L := [j]) (fun q => h (Or.inl q))
      have e2 : i = j := by simpa using h1
      subst e2
      rw [e] at h ⊢
      simp only [Int.toNat_natCast] at h ⊢
      have h : R i ≤ u := by omega
      split
      · rename_i hc
        refine ⟨by simp, fun w hw => ⟨i, by simpa using hw, by simp [tl], h2⟩, fun q => ?_⟩
        simp [tl]
        constructor
        · intro w
          have : q = i := by omega
          subst this
          exact ⟨rfl, h2, h, hc⟩
        · intro w
          rw [w.1]
      · rename_i hc
        refine ⟨by simp, by simp, fun q => ?_⟩
        simp [tl]
        intro w h3 h4 h5
        subst w
        omega
  | .branch s x y, S, hO, hN, hJ => by
    simp only [lk]
    have hJ : ∀ j ∈ tl x ++ tl y, j < 12 ∧ 0 ≤ T 2 j := hJ
    split
    · rename_i h
      refine ⟨by simp, by simp, fun q => ?_⟩
      show _ ↔ (q ∈ tl x ++ tl y ∧ _)
      constructor
      · intro w; simp at w
      · rintro ⟨w1, w2, w3, _⟩
        exfalso
        rcases bst_spec R S (tl x ++ tl y) with ⟨e, w⟩ | ⟨i, e, h1, h2⟩
        · exact w q ⟨w1, w2⟩
        · rw [e] at h
          simp at h
          by_cases e2 : q = i
          · subst e2; omega
          · have := h2 q ⟨w1, w2⟩ e2
            unfold ahd at this
            omega
    · rename_i h
      obtain ⟨i, e, h1, h2⟩ := bst_nat (R := R) (S := S) (L := tl x ++ tl y) (fun q => h (Or.inl q))
      rw [e] at h ⊢
      simp only [Int.toNat_natCast] at h ⊢
      obtain ⟨o1, o2, _, _, o5, o6⟩ := hO
      have hN' := List.nodup_append.mp hN
      have ix := lk_mem (R := R) (a := a) (b := b) (u := u) x (wo S (i : Int)) o5 hN'.1 (fun j hj => hJ j (List.mem_append_left _ hj))
      have iy := lk_mem (R := R) (a := a) (b := b) (u := u) y (wo S (i : Int)) o6 hN'.2.1 (fun j hj => hJ j (List.mem_append_right _ hj))
      obtain ⟨A, hA⟩ : ∃ A, A = (if a ≤ ((s / 16 : Nat) : Int) then (lk R (T 2) a b u x (wo S (i : Int))).2 else []) := ⟨_, rfl⟩
      obtain ⟨B, hB⟩ : ∃ B, B = (if ((s / 16 : Nat) : Int) ≤ b then (lk R (T 2) a b u y (wo S (i : Int))).2 else []) := ⟨_, rfl⟩
      rw [← hA, ← hB]
      have kA : A.Nodup ∧ (∀ w ∈ A, ∃ j : Nat, w = (j : Int) ∧ j ∈ tl x ∧ wo S (i : Int) j = true) ∧ ∀ j : Nat, (j : Int) ∈ A ↔ (j ∈ tl x ∧ wo S (i : Int) j = true ∧ R j ≤ u ∧ a ≤ T 2 j ∧ T 2 j ≤ b) := by
        rw [hA]
        split
        · exact ix
        · rename_i hc
          refine ⟨by simp, by simp, fun q => ?_⟩
          constructor
          · intro w; simp at w
          · rintro ⟨w1, w2, w3, w4, w5⟩
            exfalso
            have h3 := o1 q w1
            have h4 := hJ q (List.mem_append_left _ w1)
            unfold keyT at h3
            omega
      have kB : B.Nodup ∧ (∀ w ∈ B, ∃ j : Nat, w = (j : Int) ∧ j ∈ tl y ∧ wo S (i : Int) j = true) ∧ ∀ j : Nat, (j : Int) ∈ B ↔ (j ∈ tl y ∧ wo S (i : Int) j = true ∧ R j ≤ u ∧ a ≤ T 2 j ∧ T 2 j ≤ b) := by
        rw [hB]
        split
        · exact iy
        · rename_i hc
          refine ⟨by simp, by simp, fun q => ?_⟩
          constructor
          · intro w; simp at w
          · rintro ⟨w1, w2, w3, w4, w5⟩
            exfalso
            have h3 := o2 q w1
            have h4 := hJ q (List.mem_append_right _ w1)
            unfold keyT at h3
            omega
      have hwi : wo S (i : Int) i = false := by unfold wo; simp
      have hAB : (A ++ B).Nodup := by
        refine List.nodup_append.mpr ⟨kA.1, kB.1, fun w hw w' hw' e2 => ?_⟩
        obtain ⟨j1, q1, q2, _⟩ := kA.2.1 w hw
        obtain ⟨j2, q3, q4, _⟩ := kB.2.1 w' hw'
        have : j1 = j2 := by omega
        exact hN'.2.2 j1 q2 j2 q4 this
      have hiAB : (i : Int) ∉ A ++ B := fun q => by
        rcases List.mem_append.mp q with q | q
        · have := ((kA.2.2 i).mp q).2.1; rw [hwi] at this; cases this
        · have := ((kB.2.2 i).mp q).2.1; rw [hwi] at this; cases this
      have hin : ∀ w ∈ A ++ B, ∃ j : Nat, w = (j : Int) ∧ j ∈ tl x ++ tl y ∧ S j = true := fun w hw => by
        rcases List.mem_append.mp hw with q | q
        · obtain ⟨j, q1, q2, q3⟩ := kA.2.1 w q
          exact ⟨j, q1, List.mem_append_left _ q2, wo_le q3⟩
        · obtain ⟨j, q1, q2, q3⟩ := kB.2.1 w q
          exact ⟨j, q1, List.mem_append_right _ q2, wo_le q3⟩
      have hmm : ∀ j : Nat, (j : Int) ∈ A ++ B ↔ (j ≠ i ∧ j ∈ tl x ++ tl y ∧ S j = true ∧ R j ≤ u ∧ a ≤ T 2 j ∧ T 2 j ≤ b) := fun j => by
        rw [List.mem_append, kA.2.2 j, kB.2.2 j]
        by_cases ej : j = i
        · subst ej
          simp [hwi]
        · rw [wo_oth (by omega)]
          simp only [List.mem_append]
          constructor
          · rintro (⟨q, r⟩ | ⟨q, r⟩)
            · exact ⟨ej, Or.inl q, r⟩
            · exact ⟨ej, Or.inr q, r⟩
          · rintro ⟨_, q | q, r⟩
            · exact Or.inl ⟨q, r⟩
            · exact Or.inr ⟨q, r⟩
      split
      · rename_i hc
        refine ⟨?_, fun w hw => ?_, fun j => ?_⟩
        · show ((i : Int) :: (A ++ B)).Nodup
          exact List.nodup_cons.mpr ⟨hiAB, hAB⟩
        · rcases List.mem_cons.mp hw with q | q
          · exact ⟨i, q, h1, h2⟩
          · exact hin w q
        · show (j : Int) ∈ (i : Int) :: (A ++ B) ↔ (j ∈ tl x ++ tl y ∧ _)
          rw [List.mem_cons, hmm j]
          by_cases ej : j = i
          · subst ej
            simp only [h1, h2]
            simp
            omega
          · have : ¬ (j : Int) = (i : Int) := by omega
            simp [this, ej]
      · rename_i hc
        refine ⟨by simpa using hAB, fun w hw => hin w (by simpa using hw), fun j => ?_⟩
        show (j : Int) ∈ [] ++ (A ++ B) ↔ (j ∈ tl x ++ tl y ∧ _)
        rw [List.nil_append, hmm j]
        constructor
        · exact fun q => q.2
        · intro q
          refine ⟨fun ej => ?_, q⟩
          subst ej
          exact hc q.2.2.2
