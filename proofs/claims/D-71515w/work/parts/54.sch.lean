/-! the machine: jobs done one after another -/
def rkL (T : Nat → Nat → Int) (later : Int) (j : Nat) : Int := rk (T 1 j) (T 4 j) (T 3 j + later)
def may (T : Nat → Nat → Int) (left : Nat) (time : Int) (j : Nat) : Bool := left.testBit j && decide (T 2 j ≤ time)
/-- which job is next; -4: none may be -/
def nx (T : Nat → Nat → Int) (later : Int) (left : Nat) (time : Int) : Int := bst (rkL T later) (may T left time) (List.range 12)
/-- the least start of those left; c: what there is if none is left -/
def mst (T : Nat → Nat → Int) (left : Nat) (c : Int) : Int := (List.range 12).foldl (fun m j => if left.testBit j = true ∧ T 2 j < m then T 2 j else m) c
def upE (E : Nat → Int) (j : Nat) (z : Int) : Nat → Int := fun i => if i = j then z else E i
def wob (left j : Nat) : Nat := left ^^^ (left &&& 2 ^ j)
def sch (T : Nat → Nat → Int) (later : Int) : Nat → Nat → Int → Nat → (Nat → Int) → Nat × (Nat → Int)
  | 0, _, _, late, E => (late, E)
  | n + 1, left, time, late, E => if left = 0 then (late, E) else if nx T later left time = -4 then sch T later n left (mst T left 1000000) late E else
      sch T later n (wob left (nx T later left time).toNat) (time + T 4 (nx T later left time).toNat) (late ||| (if time + T 4 (nx T later left time).toNat > T 3 (nx T later left time).toNat + later then 2 ^ (nx T later left time).toNat else 0)) (upE E (nx T later left time).toNat (time + T 4 (nx T later left time).toNat))
def mu (T : Nat → Nat → Int) (later : Int) (left : Nat) (time : Int) : Nat := 2 * cnt left 12 + (if nx T later left time = -4 then 1 else 0)
theorem mst_spec (T : Nat → Nat → Int) (left : Nat) : ∀ (L : List Nat) (c : Int), ((∀ j ∈ L, ¬ left.testBit j = true) ∧ L.foldl (fun m j => if left.testBit j = true ∧ T 2 j < m then T 2 j else m) c = c) ∨ (L.foldl (fun m j => if left.testBit j = true ∧ T 2 j < m then T 2 j else m) c ≤ c ∧ (∀ j ∈ L, left.testBit j = true → L.foldl (fun m j => if left.testBit j = true ∧ T 2 j < m then T 2 j else m) c ≤ T 2 j) ∧ (L.foldl (fun m j => if left.testBit j = true ∧ T 2 j < m then T 2 j else m) c = c ∨ ∃ j ∈ L, left.testBit j = true ∧ L.foldl (fun m j => if left.testBit j = true ∧ T 2 j < m then T 2 j else m) c = T 2 j))
  | [], c => Or.inl ⟨by simp, rfl⟩
  | a :: L, c => by
    simp only [List.foldl_cons]
    right
    by_cases h : left.testBit a = true ∧ T 2 a < c
    · rw [if_pos h]
      rcases mst_spec T left L (T 2 a) with ⟨h1, h2⟩ | ⟨h1, h2, h3⟩
      · rw [h2]
        refine ⟨by omega, fun j hj hb => ?_, Or.inr ⟨a, by simp, h.1, rfl⟩⟩
        rcases List.mem_cons.mp hj with e | e
        · rw [e]; omega
        · exact absurd hb (h1 j e)
      · refine ⟨by omega, fun j hj hb => ?_, ?_⟩
        · rcases List.mem_cons.mp hj with e | e
          · rw [e]; exact h1
          · exact h2 j e hb
        · rcases h3 with h3 | ⟨j, h3, h4⟩
          · exact Or.inr ⟨a, by simp, h.1, h3⟩
          · exact Or.inr ⟨j, by simp [h3], h4⟩
    · rw [if_neg h]
      rcases mst_spec T left L c with ⟨h1, h2⟩ | ⟨h1, h2, h3⟩
      · rw [h2]
        refine ⟨by omega, fun j hj hb => ?_, Or.inl rfl⟩
        rcases List.mem_cons.mp hj with e | e
        · rw [e] at hb ⊢
          have : ¬ T 2 a < c := fun q => h ⟨hb, q⟩
          omega
        · exact absurd hb (h1 j e)
      · refine ⟨h1, fun j hj hb => ?_, ?_⟩
        · rcases List.mem_cons.mp hj with e | e
          · rw [e] at hb ⊢
            have : ¬ T 2 a < c := fun q => h ⟨hb, q⟩
            omega
          · exact h2 j e hb
        · rcases h3 with h3 | ⟨j, h3, h4⟩
          · exact Or.inl h3
          · exact Or.inr ⟨j, by simp [h3], h4⟩
theorem bit_ex {b : Nat} (h : b ≠ 0) (hb : b < 4096) : ∃ j, j < 12 ∧ b.testBit j = true := by
  obtain ⟨j, hj⟩ := Nat.exists_testBit_of_ne_zero h
  exact ⟨j, tb12 hb hj, hj⟩
/-- the least start, whatever stands for none -/
theorem mst_in {T : Nat → Nat → Int} {left : Nat} (h0 : left ≠ 0) (hb : left < 4096) (hT : ∀ j, left.testBit j = true → 0 ≤ T 2 j ∧ T 2 j ≤ 99) {c : Int} (hc : 99 < c) : (0 ≤ mst T left c ∧ mst T left c ≤ 99) ∧ (∀ j, left.testBit j = true → mst T left c ≤ T 2 j) ∧ ∃ j, left.testBit j = true ∧ mst T left c = T 2 j := by
  obtain ⟨i, hi, hib⟩ := bit_ex h0 hb
  rcases mst_spec T left (List.range 12) c with ⟨h1, _⟩ | ⟨h1, h2, h3⟩
  · exact absurd hib (h1 i (by simpa using hi))
  · have hle : ∀ j, left.testBit j = true → mst T left c ≤ T 2 j := fun j hj => h2 j (by simpa using tb12 hb hj) hj
    have h4 := hle i hib
    have h5 := hT i hib
    rcases h3 with h3 | ⟨j, h3, h6, h7⟩
    · have : mst T left c = c := h3
      omega
    · have h8 : mst T left c = T 2 j := h7
      have h9 := hT j h6
      exact ⟨by omega, hle, j, h6, h8⟩
theorem mst_c {T : Nat → Nat → Int} {left : Nat} (h0 : left ≠ 0) (hb : left < 4096) (hT : ∀ j, left.testBit j = true → 0 ≤ T 2 j ∧ T 2 j ≤ 99) {c d : Int} (hc : 99 < c) (hd : 99 < d) : mst T left c = mst T left d := by
  obtain ⟨_, h2, j, h3, h4⟩ := mst_in h0 hb hT hc
  obtain ⟨_, k2, k, k3, k4⟩ := mst_in h0 hb hT hd
  have := h2 k k3
  have := k2 j h3
  omega
theorem cnt_wob : ∀ (n : Nat) {b j : Nat}, b.testBit j = true → cnt (wob b j) n + (if j < n then 1 else 0) = cnt b n
  | 0, b, j, _ => rfl
  | n + 1, b, j, h => by
    have ih := cnt_wob n h
    have hx : (wob b j).testBit n = (b.testBit n && !decide (j = n)) := xor_bit b j n
    show cnt (wob b j) n + ((wob b j).testBit n).toNat + _ = cnt b n + (b.testBit n).toNat
    rw [hx]
    by_cases e : j = n
    · subst e
      rw [h]
      simp at ih ⊢
      omega
    · simp [e]
      by_cases q : j < n
      · rw [if_pos (by omega)]
        rw [if_pos q] at ih
        omega
      · rw [if_neg (by omega)]
        rw [if_neg q] at ih
        omega
theorem nx_in {T : Nat → Nat → Int} {later : Int} {left : Nat} {time : Int} : nx T later left time = -4 ∨ ∃ j : Nat, nx T later left time = (j : Int) ∧ j < 12 ∧ left.testBit j = true ∧ T 2 j ≤ time := by
  rcases (bst_spec (rkL T later) (may T left time) (List.range 12)).in with h | ⟨j, h, h2, h3⟩
  · exact Or.inl h
  · right
    simp [may] at h3
    exact ⟨j, h, by simpa using h2, h3.1, h3.2⟩
theorem nx_no {T : Nat → Nat → Int} {later : Int} {left : Nat} {time : Int} (h : nx T later left time = -4) {j : Nat} (hj : j < 12) (hb : left.testBit j = true) : ¬ T 2 j ≤ time := by
  rcases bst_spec (rkL T later) (may T left time) (List.range 12) with ⟨_, h2⟩ | ⟨i, h2, _⟩
  · exact fun q => h2 j ⟨by simpa using hj, by simp [may, hb, q]⟩
  · have h2 : nx T later left time = (i : Int) := h2
    omega
theorem wob_bit (b j i : Nat) : (wob b j).testBit i = (b.testBit i && !decide (j = i)) := xor_bit b j i
