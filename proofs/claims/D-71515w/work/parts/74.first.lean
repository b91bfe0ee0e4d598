/-! first: who has just k ahead -/
theorem nd_perm {L M : List Nat} (hL : L.Nodup) (hM : M.Nodup) (h : ∀ i, i ∈ L ↔ i ∈ M) : List.Perm L M := by
  rw [List.perm_iff_count]
  intro i
  by_cases e : i ∈ L
  · have h1 := List.nodup_iff_count.mp hL i
    have h2 := List.nodup_iff_count.mp hM i
    have h3 := List.count_pos_iff.mpr e
    have h4 := List.count_pos_iff.mpr ((h i).mp e)
    omega
  · rw [List.count_eq_zero.mpr e, List.count_eq_zero.mpr (fun q => e ((h i).mpr q))]
def ahB (R : Nat → Int) (i j : Nat) : Bool := decide (R i < R j ∨ R i = R j ∧ i < j)
theorem ahB_t {R : Nat → Int} {i j : Nat} : ahB R i j = true ↔ ahd R i j := by unfold ahB ahd; simp
/-- how many of S are ahead of j -/
def cA (R : Nat → Int) (S : Nat → Bool) (j : Nat) : Nat := (List.range 12).countP (fun i => S i && ahB R i j)
theorem cP_lt {p q : Nat → Bool} {j : Nat} : ∀ (L : List Nat), (∀ i, p i = true → q i = true) → L.countP p ≤ L.countP q ∧ (j ∈ L → p j = false → q j = true → L.countP p < L.countP q)
  | [], _ => ⟨Nat.le_refl _, fun h => by simp at h⟩
  | x :: L, h => by
    have ih := cP_lt (p := p) (q := q) (j := j) L h
    rw [List.countP_cons, List.countP_cons]
    have hx : (if p x = true then 1 else 0) ≤ (if q x = true then 1 else 0) := by
      by_cases e : p x = true
      · rw [if_pos e, if_pos (h x e)]; exact Nat.le_refl _
      · rw [if_neg e]; exact Nat.zero_le _
    refine ⟨by omega, fun hj h1 h2 => ?_⟩
    rcases List.mem_cons.mp hj with e | e
    · subst e
      rw [h1, h2]
      simp
      omega
    · have := ih.2 e h1 h2
      omega
theorem cA_lt {R : Nat → Int} {S : Nat → Bool} {i j : Nat} (hi : i < 12) (hs : S i = true) (h : ahd R i j) : cA R S i < cA R S j := by
  refine (cP_lt (j := i) (List.range 12) (fun q hq => ?_)).2 (by simpa using hi) ?_ ?_
  · simp at hq ⊢
    refine ⟨hq.1, ahB_t.mpr ?_⟩
    have := ahB_t.mp hq.2
    unfold ahd at h this ⊢
    omega
  · have : ahB R i i = false := by unfold ahB; simp
    simp [this]
  · simp [hs, ahB_t.mpr h]
theorem cA_inj {R : Nat → Int} {S : Nat → Bool} {i j : Nat} (hi : i < 12) (hj : j < 12) (hs : S i = true) (hs' : S j = true) (h : cA R S i = cA R S j) : i = j := by
  refine Classical.byContradiction (fun hn => ?_)
  by_cases hc : ahd R i j
  · have := cA_lt hi hs hc; omega
  · have := cA_lt (R := R) (i := j) (j := i) hj hs' (by unfold ahd at hc ⊢; omega)
    omega
theorem cP_one {p q : Nat → Bool} {j : Nat} (he : ∀ i, i ≠ j → p i = q i) (h1 : p j = true) (h2 : q j = false) : ∀ (L : List Nat), L.Nodup → L.countP p = L.countP q + (if j ∈ L then 1 else 0)
  | [], _ => by simp
  | x :: L, hn => by
    have hn' := List.nodup_cons.mp hn
    have ih := cP_one he h1 h2 L hn'.2
    rw [List.countP_cons, List.countP_cons, ih]
    by_cases e : x = j
    · subst e
      rw [h1, h2, if_neg hn'.1]
      simp
    · have e2 : (j ∈ x :: L) ↔ j ∈ L := by simp [Ne.symm e]
      rw [he x e]
      by_cases e3 : j ∈ L
      · rw [if_pos e3, if_pos (e2.mpr e3)]; omega
      · rw [if_neg e3, if_neg (fun q => e3 (e2.mp q))]; omega
theorem kth_spec {R : Nat → Int} : ∀ (n : Nat) (S : Nat → Bool), (∃ j : Nat, kth R n S = (j : Int) ∧ j < 12 ∧ S j = true ∧ cA R S j = n) ∨ (kth R n S = -4 ∧ ∀ j, j < 12 → S j = true → cA R S j ≠ n)
  | 0, S => by
    rcases bst_spec R S (List.range 12) with ⟨e, h⟩ | ⟨j, e, h1, h2⟩
    · exact Or.inr ⟨e, fun j hj hs => absurd ⟨by simpa using hj, hs⟩ (h j)⟩
    · have hj : j < 12 := by simpa using h1.1
      refine Or.inl ⟨j, e, hj, h1.2, ?_⟩
      unfold cA
      rw [List.countP_eq_zero]
      intro i hi
      simp
      intro hs
      cases hq : ahB R i j with
      | false => rfl
      | true =>
        have hq := ahB_t.mp hq
        have hn : i ≠ j := fun e => by subst e; unfold ahd at hq; omega
        have := h2 i ⟨hi, hs⟩ hn
        unfold ahd at hq this
        omega
  | n + 1, S => by
    show (∃ j : Nat, kth R n (wo S (bst R S (List.range 12))) = (j : Int) ∧ _) ∨ (kth R n (wo S (bst R S (List.range 12))) = -4 ∧ _)
    rcases bst_spec R S (List.range 12) with ⟨e, h⟩ | ⟨i, e, h1, h2⟩
    · rw [e, wo_n]
      rcases kth_spec (R := R) n S with ⟨j, _, q1, q2, _⟩ | ⟨q1, q2⟩
      · exact absurd ⟨by simpa using q1, q2⟩ (h j)
      · exact Or.inr ⟨q1, fun j hj hs => absurd ⟨by simpa using hj, hs⟩ (h j)⟩
    · have hi : i < 12 := by simpa using h1.1
      rw [e]
      have hc : ∀ j, j < 12 → S j = true → j ≠ i → cA R S j = cA R (wo S (i : Int)) j + 1 := fun j hj hs hn => by
        have h3 := h2 j ⟨by simpa using hj, hs⟩ hn
        have := cP_one (p := fun q => S q && ahB R q j) (q := fun q => wo S (i : Int) q && ahB R q j) (j := i) (fun q hq => by rw [wo_oth (by omega)]) (by rw [h1.2, ahB_t.mpr h3]; rfl) (by unfold wo; simp) (List.range 12) List.nodup_range
        rw [if_pos (by simpa using hi)] at this
        exact this
      have h0 : cA R S i = 0 := by
        unfold cA
        rw [List.countP_eq_zero]
        intro q hq
        simp
        intro hs
        cases hq2 : ahB R q i with
        | false => rfl
        | true =>
          have hq2 := ahB_t.mp hq2
          have hn : q ≠ i := fun e => by subst e; unfold ahd at hq2; omega
          have := h2 q ⟨hq, hs⟩ hn
          unfold ahd at hq2 this
          omega
      rcases kth_spec (R := R) n (wo S (i : Int)) with ⟨j, q0, q1, q2, q3⟩ | ⟨q1, q2⟩
      · have hn : j ≠ i := fun e => by subst e; unfold wo at q2; simp at q2
        exact Or.inl ⟨j, q0, q1, wo_le q2, by rw [hc j q1 (wo_le q2) hn, q3]⟩
      · refine Or.inr ⟨q1, fun j hj hs hcc => ?_⟩
        by_cases hn : j = i
        · subst hn; omega
        · have := hc j hj hs hn
          exact q2 j hj (by rw [wo_oth (by omega)]; exact hs) (by omega)
/-- the first of those found that has just k ahead -/
def frO (R : Nat → Int) (F : List Int) (k : Nat) : List Int → Int
  | [] => -4
  | w :: r => if F.countP (fun z => ahB R z.toNat w.toNat) = k then w else frO R F k r
theorem frO_kth {R : Nat → Int} {F : List Int} {S : Nat → Bool} {k : Nat} (hN : F.Nodup) (hF : ∀ w ∈ F, ∃ j : Nat, w = (j : Int)) (hS : ∀ j : Nat, (j : Int) ∈ F ↔ (j < 12 ∧ S j = true)) : frO R F k F = kth R k S := by
  have hc : ∀ j, F.countP (fun z => ahB R z.toNat j) = cA R S j := fun j => by
    have e1 : F.countP (fun z => ahB R z.toNat j) = (F.map Int.toNat).countP (fun i => ahB R i j) := by rw [List.countP_map]; rfl
    have e2 : cA R S j = ((List.range 12).filter S).countP (fun i => ahB R i j) := by
      unfold cA
      rw [List.countP_filter]
      congr 1
      funext i
      exact Bool.and_comm _ _
    rw [e1, e2]
    refine List.Perm.countP_eq _ (nd_perm ?_ (List.Nodup.sublist List.filter_sublist List.nodup_range) (fun i => ?_))
    · refine (List.pairwise_map).mpr ?_
      refine List.Pairwise.imp_of_mem (R := fun a b => a ≠ b) ?_ hN
      intro p q hp hq hne e
      obtain ⟨j1, w1⟩ := hF p hp
      obtain ⟨j2, w2⟩ := hF q hq
      omega
    · rw [List.mem_filter, List.mem_map]
      constructor
      · rintro ⟨w, hw, e⟩
        obtain ⟨j1, w1⟩ := hF w hw
        have : j1 = i := by omega
        rw [w1, this] at hw
        have := (hS i).mp hw
        simpa using this
      · intro q
        exact ⟨(i : Int), (hS i).mpr (by simpa using q), by simp⟩
  have hgen : ∀ L : List Int, (∀ w ∈ L, w ∈ F) → (frO R F k L ∈ L ∧ ∃ j : Nat, frO R F k L = (j : Int) ∧ cA R S j = k) ∨ (frO R F k L = -4 ∧ ∀ j : Nat, (j : Int) ∈ L → cA R S j ≠ k) := by
    intro L
    induction L with
    | nil => exact fun _ => Or.inr ⟨rfl, fun j hj => by simp at hj⟩
    | cons w r ih =>
      intro hL
      obtain ⟨j, ej⟩ := hF w (hL w List.mem_cons_self)
      subst ej
      simp only [frO]
      rw [hc]
      split
      · rename_i hq
        exact Or.inl ⟨List.mem_cons_self, j, rfl, by simpa using hq⟩
      · rename_i hq
        rcases ih (fun z hz => hL z (List.mem_cons_of_mem _ hz)) with ⟨q1, q2⟩ | ⟨q1, q2⟩
        · exact Or.inl ⟨List.mem_cons_of_mem _ q1, q2⟩
        · refine Or.inr ⟨q1, fun i hi => ?_⟩
          rcases List.mem_cons.mp hi with e | e
          · have : i = j := by omega
            subst this
            simpa using hq
          · exact q2 i e
  rcases hgen F (fun w h => h) with ⟨q1, j, q2, q3⟩ | ⟨q1, q2⟩
  · rw [q2] at q1 ⊢
    have hj := (hS j).mp q1
    rcases kth_spec (R := R) k S with ⟨i, p0, p1, p2, p3⟩ | ⟨p1, p2⟩
    · rw [p0, cA_inj (R := R) hj.1 p1 hj.2 p2 (by omega)]
    · exact absurd q3 (p2 j hj.1 hj.2)
  · rw [q1]
    rcases kth_spec (R := R) k S with ⟨i, p0, p1, p2, p3⟩ | ⟨p1, p2⟩
    · exact absurd p3 (q2 i ((hS i).mpr ⟨p1, p2⟩))
    · exact p1.symm
/-- found by a look without a bound, then by those ahead: the k-th of those of a start from a to b -/
theorem first_eq {v : VV} (hV : VOk v) (a b : Int) (k : Nat) : frO (rkT v.2.1) (qLk v a b 200).2 k (qLk v a b 200).2 = kth (rkT v.2.1) k (frS v a b) := by
  have hj : ∀ j ∈ tl v.2.2, j < 12 ∧ 0 ≤ v.2.1 2 j := fun j hj => by
    have := (hV.2.1.1 j).mp hj
    exact ⟨tb12 hV.1.1 this, (hV.1.2 j this).2.1.1⟩
  obtain ⟨h1, h2, h3⟩ := lk_mem (R := rkT v.2.1) (a := a) (b := b) (u := 200) v.2.2 (fun _ => true) hV.2.2 hV.2.1.2 hj
  refine frO_kth h1 (fun w hw => by obtain ⟨j, q, _⟩ := h2 w hw; exact ⟨j, q⟩) (fun j => ?_)
  unfold qLk
  rw [h3 j, hV.2.1.1 j]
  unfold frS
  constructor
  · rintro ⟨q1, _, q2, q3⟩
    exact ⟨tb12 hV.1.1 q1, by simp [q1]; exact q3⟩
  · rintro ⟨q1, q2⟩
    simp at q2
    have hr := hV.1.2 j q2.1
    refine ⟨q2.1, rfl, ?_, q2.2⟩
    unfold rkT rk
    split
    · omega
    · split
      · omega
      · split
        · split <;> omega
        · omega
