/-! where each number of the picture lies: fields and arrays -/
theorem st_cong {E : EE} {γ γ' : GG} {k r : Nat} (h0 : r = 0 → γ' (2 + k) 0 0 = γ (2 + k) 0 0 ∧ γ' (2 + k) 1 0 = γ (2 + k) 1 0 ∧ γ' (2 + k) 2 0 = γ (2 + k) 2 0 ∧ γ' (2 + k) 8 0 = γ (2 + k) 8 0 ∧ γ' (2 + k) 10 0 = γ (2 + k) 10 0) (h1 : 2 ≤ r → r < 8 → γ' (2 + k) (sB (r - 2)) = γ (2 + k) (sB (r - 2)))
    (h2 : 8 ≤ r → ∀ f, 21 ≤ f → γ' (2 + k) f (r - 8) = γ (2 + k) f (r - 8)) : stCell E γ' k r = stCell E γ k r := by
  unfold stCell
  by_cases a : r = 0
  · obtain ⟨e1, e2, e3, e4, e5⟩ := h0 a
    rw [if_pos a, if_pos a]
    unfold cSt
    rw [e1, e2, e3, e4, e5]
  · rw [if_neg a, if_neg a]
    by_cases b : r = 1
    · rw [if_pos b, if_pos b]
    · rw [if_neg b, if_neg b]
      by_cases c : r < 8
      · rw [if_pos c, if_pos c, h1 (by omega) c]
      · rw [if_neg c, if_neg c]
        have h := h2 (by omega)
        unfold cNd
        rw [h 21 (by omega), h 22 (by omega), h 23 (by omega), h 24 (by omega), h 25 (by omega), h 26 (by omega)]
theorem st_key {q : Nat} (h1 : 11 ≤ q) (h2 : q < 414) : ∃ k r, k < 13 ∧ r < 31 ∧ q = 11 + 31 * k + r := ⟨(q - 11) / 31, (q - 11) % 31, by omega, by omega, by omega⟩
/-- cells of other groups -/
theorem cell_o {E : EE} {γ : GG} {o f i : Nat} {z : Int} {q : Nat} (h1 : q < 11 → o ≠ 1) (h2 : ∀ k, 11 + 31 * k ≤ q → q < 42 + 31 * k → k < 13 → o ≠ 2 + k) (h3 : 414 ≤ q → o ≠ 0) : cellOf E (gu γ o f i z) q = cellOf E γ q :=
  cell_cong (fun h => gu_o (Ne.symm (h1 h))) (fun k a b c => gu_o (Ne.symm (h2 k a b c))) (fun h => gu_o (Ne.symm (h3 h)))
/-- an array of ints or bytes -/
def ArrK (E : EE) (t key o f N : Nat) : Prop := (∀ γ : GG, cellOf E γ key = .inl (E.cA t, N, ints (γ o f))) ∧ ∀ (γ : GG) (i : Nat) (x : Int) (q : Nat), q ≠ key → cellOf E (gu γ o f i x) q = cellOf E γ q
/-- a field: class ci, place pos; its value by the number -/
def FldK (E : EE) (key ci o f i pos : Nat) (val : Int → Value) (fs : GG → List Value) : Prop := (∀ γ : GG, cellOf E γ key = .inr (ci, fs γ)) ∧ (∀ γ : GG, (fs γ)[pos]? = some (val (γ o f i))) ∧ (∀ (γ : GG) (z : Int), fs (gu γ o f i z) = (fs γ).set pos (val z)) ∧ ∀ (γ : GG) (z : Int) (q : Nat), q ≠ key → cellOf E (gu γ o f i z) q = cellOf E γ q
abbrev vI : Int → Value := fun z => .int (iI z)
abbrev vN (ad : Nat → Nat) (k : Nat) : Int → Value := fun z => va_rf (onode ad k z)
theorem md_arr {E : EE} {γ : GG} (i : Nat) : cellOf E γ (415 + i) = .inl (E.cA 1, (mA i).2, ints (γ 0 (mA i).1)) := by
  rw [show 415 + i = 414 + (i + 1) by omega, cell_md]
  simp only [mdCell]
  rw [if_neg (by omega), show i + 1 - 1 = i by omega]
theorem mA_big {i : Nat} (h : 23 ≤ i) : mA i = (99, 0) := by
  unfold mA
  rw [List.getD_eq_getElem?_getD, List.getElem?_eq_none (by simpa [mArr] using h)]
  rfl
/-- the model's cells at a change of one number: of a field or of an array -/
theorem md_oth {E : EE} {γ : GG} {f i : Nat} {x : Int} {key q : Nat} (hq : q ≠ key) (hs : key ≠ 414 → ∀ g, [0, 5, 11, 20, 22, 25, 28, 29, 30, 31].contains g = true → g ≠ f) (ha : ∀ j, j < 23 → 415 + j ≠ key → (mA j).1 ≠ f) (h99 : 99 ≠ f) : cellOf E (gu γ 0 f i x) q = cellOf E γ q := by
  by_cases h : q < 414
  · exact cell_o (fun _ => by omega) (fun _ _ _ _ => by omega) (fun _ => by omega)
  · by_cases h2 : q = 414
    · subst h2
      have h3 := hs (Ne.symm hq)
      rw [show (414 : Nat) = 414 + 0 from rfl, cell_md, cell_md]
      simp only [mdCell]
      rw [if_pos trivial, if_pos trivial]
      unfold cMd
      rw [gu_f (b := 0) (h3 0 rfl), gu_f (b := 5) (h3 5 rfl), gu_f (b := 11) (h3 11 rfl), gu_f (b := 20) (h3 20 rfl), gu_f (b := 22) (h3 22 rfl), gu_f (b := 25) (h3 25 rfl), gu_f (b := 28) (h3 28 rfl), gu_f (b := 29) (h3 29 rfl), gu_f (b := 30) (h3 30 rfl), gu_f (b := 31) (h3 31 rfl)]
    · obtain ⟨j, rfl⟩ : ∃ j, q = 415 + j := ⟨q - 415, by omega⟩
      rw [md_arr, md_arr]
      by_cases hj : j < 23
      · rw [gu_f (ha j hj hq)]
      · rw [mA_big (by omega)]
        rw [gu_f h99]
theorem aM1 (E : EE) : ArrK E 1 415 0 1 12 := ⟨fun γ => md_arr (E := E) (γ := γ) 0, fun γ i x q hq => md_oth hq (fun _ g hg e => by rw [e] at hg; revert hg; decide) (by decide) (by decide)⟩
theorem aM2 (E : EE) : ArrK E 1 416 0 2 12 := ⟨fun γ => md_arr (E := E) (γ := γ) 1, fun γ i x q hq => md_oth hq (fun _ g hg e => by rw [e] at hg; revert hg; decide) (by decide) (by decide)⟩
theorem aM3 (E : EE) : ArrK E 1 417 0 3 12 := ⟨fun γ => md_arr (E := E) (γ := γ) 2, fun γ i x q hq => md_oth hq (fun _ g hg e => by rw [e] at hg; revert hg; decide) (by decide) (by decide)⟩
theorem aM4 (E : EE) : ArrK E 1 418 0 4 12 := ⟨fun γ => md_arr (E := E) (γ := γ) 3, fun γ i x q hq => md_oth hq (fun _ g hg e => by rw [e] at hg; revert hg; decide) (by decide) (by decide)⟩
theorem aM6 (E : EE) : ArrK E 1 419 0 6 24 := ⟨fun γ => md_arr (E := E) (γ := γ) 4, fun γ i x q hq => md_oth hq (fun _ g hg e => by rw [e] at hg; revert hg; decide) (by decide) (by decide)⟩
theorem aM7 (E : EE) : ArrK E 1 420 0 7 24 := ⟨fun γ => md_arr (E := E) (γ := γ) 5, fun γ i x q hq => md_oth hq (fun _ g hg e => by rw [e] at hg; revert hg; decide) (by decide) (by decide)⟩
theorem aM8 (E : EE) : ArrK E 1 421 0 8 24 := ⟨fun γ => md_arr (E := E) (γ := γ) 6, fun γ i x q hq => md_oth hq (fun _ g hg e => by rw [e] at hg; revert hg; decide) (by decide) (by decide)⟩
theorem aM9 (E : EE) : ArrK E 1 422 0 9 24 := ⟨fun γ => md_arr (E := E) (γ := γ) 7, fun γ i x q hq => md_oth hq (fun _ g hg e => by rw [e] at hg; revert hg; decide) (by decide) (by decide)⟩
theorem aM10 (E : EE) : ArrK E 1 423 0 10 24 := ⟨fun γ => md_arr (E := E) (γ := γ) 8, fun γ i x q hq => md_oth hq (fun _ g hg e => by rw [e] at hg; revert hg; decide) (by decide) (by decide)⟩
theorem aM12 (E : EE) : ArrK E 1 424 0 12 24 := ⟨fun γ => md_arr (E := E) (γ := γ) 9, fun γ i x q hq => md_oth hq (fun _ g hg e => by rw [e] at hg; revert hg; decide) (by decide) (by decide)⟩
theorem aM13 (E : EE) : ArrK E 1 425 0 13 12 := ⟨fun γ => md_arr (E := E) (γ := γ) 10, fun γ i x q hq => md_oth hq (fun _ g hg e => by rw [e] at hg; revert hg; decide) (by decide) (by decide)⟩
theorem aM14 (E : EE) : ArrK E 1 426 0 14 24 := ⟨fun γ => md_arr (E := E) (γ := γ) 11, fun γ i x q hq => md_oth hq (fun _ g hg e => by rw [e] at hg; revert hg; decide) (by decide) (by decide)⟩
theorem aM15 (E : EE) : ArrK E 1 427 0 15 24 := ⟨fun γ => md_arr (E := E) (γ := γ) 12, fun γ i x q hq => md_oth hq (fun _ g hg e => by rw [e] at hg; revert hg; decide) (by decide) (by decide)⟩
theorem aM16 (E : EE) : ArrK E 1 428 0 16 24 := ⟨fun γ => md_arr (E := E) (γ := γ) 13, fun γ i x q hq => md_oth hq (fun _ g hg e => by rw [e] at hg; revert hg; decide) (by decide) (by decide)⟩
theorem aM17 (E : EE) : ArrK E 1 429 0 17 24 := ⟨fun γ => md_arr (E := E) (γ := γ) 14, fun γ i x q hq => md_oth hq (fun _ g hg e => by rw [e] at hg; revert hg; decide) (by decide) (by decide)⟩
theorem aM18 (E : EE) : ArrK E 1 430 0 18 24 := ⟨fun γ => md_arr (E := E) (γ := γ) 15, fun γ i x q hq => md_oth hq (fun _ g hg e => by rw [e] at hg; revert hg; decide) (by decide) (by decide)⟩
theorem aM19 (E : EE) : ArrK E 1 431 0 19 1368 := ⟨fun γ => md_arr (E := E) (γ := γ) 16, fun γ i x q hq => md_oth hq (fun _ g hg e => by rw [e] at hg; revert hg; decide) (by decide) (by decide)⟩
theorem aM21 (E : EE) : ArrK E 1 432 0 21 342 := ⟨fun γ => md_arr (E := E) (γ := γ) 17, fun γ i x q hq => md_oth hq (fun _ g hg e => by rw [e] at hg; revert hg; decide) (by decide) (by decide)⟩
theorem aM23 (E : EE) : ArrK E 1 433 0 23 171 := ⟨fun γ => md_arr (E := E) (γ := γ) 18, fun γ i x q hq => md_oth hq (fun _ g hg e => by rw [e] at hg; revert hg; decide) (by decide) (by decide)⟩
theorem aM24 (E : EE) : ArrK E 1 434 0 24 12 := ⟨fun γ => md_arr (E := E) (γ := γ) 19, fun γ i x q hq => md_oth hq (fun _ g hg e => by rw [e] at hg; revert hg; decide) (by decide) (by decide)⟩
theorem aM26 (E : EE) : ArrK E 1 435 0 26 12 := ⟨fun γ => md_arr (E := E) (γ := γ) 20, fun γ i x q hq => md_oth hq (fun _ g hg e => by rw [e] at hg; revert hg; decide) (by decide) (by decide)⟩
theorem aM27 (E : EE) : ArrK E 1 436 0 27 200 := ⟨fun γ => md_arr (E := E) (γ := γ) 21, fun γ i x q hq => md_oth hq (fun _ g hg e => by rw [e] at hg; revert hg; decide) (by decide) (by decide)⟩
theorem aM32 (E : EE) : ArrK E 1 437 0 32 48 := ⟨fun γ => md_arr (E := E) (γ := γ) 22, fun γ i x q hq => md_oth hq (fun _ g hg e => by rw [e] at hg; revert hg; decide) (by decide) (by decide)⟩
theorem fM0 (E : EE) : FldK E 414 7 0 0 0 0 vI (cMd E.ad) := ⟨fun γ => cell_md 0, fun γ => rfl, fun γ z => by simp [cMd, gu], fun γ z q hq => md_oth hq (fun h => absurd rfl h) (by decide) (by decide)⟩
theorem fM5 (E : EE) : FldK E 414 7 0 5 0 5 vI (cMd E.ad) := ⟨fun γ => cell_md 0, fun γ => rfl, fun γ z => by simp [cMd, gu], fun γ z q hq => md_oth hq (fun h => absurd rfl h) (by decide) (by decide)⟩
theorem fM11 (E : EE) : FldK E 414 7 0 11 0 11 vI (cMd E.ad) := ⟨fun γ => cell_md 0, fun γ => rfl, fun γ z => by simp [cMd, gu], fun γ z q hq => md_oth hq (fun h => absurd rfl h) (by decide) (by decide)⟩
theorem fM20 (E : EE) : FldK E 414 7 0 20 0 20 vI (cMd E.ad) := ⟨fun γ => cell_md 0, fun γ => rfl, fun γ z => by simp [cMd, gu], fun γ z q hq => md_oth hq (fun h => absurd rfl h) (by decide) (by decide)⟩
theorem fM22 (E : EE) : FldK E 414 7 0 22 0 22 vI (cMd E.ad) := ⟨fun γ => cell_md 0, fun γ => rfl, fun γ z => by simp [cMd, gu], fun γ z q hq => md_oth hq (fun h => absurd rfl h) (by decide) (by decide)⟩
theorem fM25 (E : EE) : FldK E 414 7 0 25 0 25 vI (cMd E.ad) := ⟨fun γ => cell_md 0, fun γ => rfl, fun γ z => by simp [cMd, gu], fun γ z q hq => md_oth hq (fun h => absurd rfl h) (by decide) (by decide)⟩
theorem fM28 (E : EE) : FldK E 414 7 0 28 0 28 vI (cMd E.ad) := ⟨fun γ => cell_md 0, fun γ => rfl, fun γ z => by simp [cMd, gu], fun γ z q hq => md_oth hq (fun h => absurd rfl h) (by decide) (by decide)⟩
theorem fM29 (E : EE) : FldK E 414 7 0 29 0 29 vI (cMd E.ad) := ⟨fun γ => cell_md 0, fun γ => rfl, fun γ z => by simp [cMd, gu], fun γ z q hq => md_oth hq (fun h => absurd rfl h) (by decide) (by decide)⟩
theorem fM30 (E : EE) : FldK E 414 7 0 30 0 30 vI (cMd E.ad) := ⟨fun γ => cell_md 0, fun γ => rfl, fun γ z => by simp [cMd, gu], fun γ z q hq => md_oth hq (fun h => absurd rfl h) (by decide) (by decide)⟩
theorem fM31 (E : EE) : FldK E 414 7 0 31 0 31 vI (cMd E.ad) := ⟨fun γ => cell_md 0, fun γ => rfl, fun γ z => by simp [cMd, gu], fun γ z q hq => md_oth hq (fun h => absurd rfl h) (by decide) (by decide)⟩
theorem dt_oth {E : EE} {γ : GG} {f i : Nat} {x : Int} {key q : Nat} (hq : q ≠ key) (h0 : key ≠ 0 → ∀ g, [5, 7, 8, 10, 11, 12].contains g = true → g ≠ f) (h3 : key ≠ 3 → 6 ≠ f) (h4 : key ≠ 4 → 9 ≠ f) (h5 : key ≠ 5 → 13 ≠ f) (h6 : key ≠ 6 → 14 ≠ f) : cellOf E (gu γ 1 f i x) q = cellOf E γ q := by
  by_cases h : q < 11
  · rw [cell_dt h, cell_dt h]
    match q, h, hq with
    | 0, _, hq =>
      have h := h0 (Ne.symm hq)
      show Sum.inr (0, cDT E.ad _) = Sum.inr (0, cDT E.ad _)
      unfold cDT
      rw [gu_f (b := 5) (h 5 rfl), gu_f (b := 7) (h 7 rfl), gu_f (b := 8) (h 8 rfl), gu_f (b := 10) (h 10 rfl), gu_f (b := 11) (h 11 rfl), gu_f (b := 12) (h 12 rfl)]
    | 1, _, _ => rfl
    | 2, _, _ => rfl
    | 3, _, hq => simp only [dtCell]; rw [gu_f (h3 (Ne.symm hq))]
    | 4, _, hq => simp only [dtCell]; rw [gu_f (h4 (Ne.symm hq))]
    | 5, _, hq => simp only [dtCell]; rw [gu_f (h5 (Ne.symm hq))]
    | 6, _, hq => simp only [dtCell]; rw [gu_f (h6 (Ne.symm hq))]
    | 7, _, _ => rfl
    | 8, _, _ => rfl
    | 9, _, _ => rfl
    | 10, _, _ => rfl
    | q + 11, h, _ => omega
  · exact cell_o (fun _ => by omega) (fun _ _ _ _ => by omega) (fun _ => by omega)
theorem aD9 (E : EE) : ArrK E 0 4 1 9 200 := ⟨fun γ => rfl, fun γ i x q hq => dt_oth hq (fun _ g hg e => by rw [e] at hg; revert hg; decide) (by decide) (by decide) (by decide) (by decide)⟩
theorem aD13 (E : EE) : ArrK E 1 5 1 13 12 := ⟨fun γ => rfl, fun γ i x q hq => dt_oth hq (fun _ g hg e => by rw [e] at hg; revert hg; decide) (by decide) (by decide) (by decide) (by decide)⟩
theorem aD14 (E : EE) : ArrK E 1 6 1 14 12 := ⟨fun γ => rfl, fun γ i x q hq => dt_oth hq (fun _ g hg e => by rw [e] at hg; revert hg; decide) (by decide) (by decide) (by decide) (by decide)⟩
theorem fD5 (E : EE) : FldK E 0 0 1 5 0 5 vI (cDT E.ad) := ⟨fun γ => rfl, fun γ => rfl, fun γ z => by simp [cDT, gu], fun γ z q hq => dt_oth hq (fun h => absurd rfl h) (by decide) (by decide) (by decide) (by decide)⟩
theorem fD7 (E : EE) : FldK E 0 0 1 7 0 7 vI (cDT E.ad) := ⟨fun γ => rfl, fun γ => rfl, fun γ z => by simp [cDT, gu], fun γ z q hq => dt_oth hq (fun h => absurd rfl h) (by decide) (by decide) (by decide) (by decide)⟩
theorem fD8 (E : EE) : FldK E 0 0 1 8 0 8 vI (cDT E.ad) := ⟨fun γ => rfl, fun γ => rfl, fun γ z => by simp [cDT, gu], fun γ z q hq => dt_oth hq (fun h => absurd rfl h) (by decide) (by decide) (by decide) (by decide)⟩
theorem fD10 (E : EE) : FldK E 0 0 1 10 0 10 vI (cDT E.ad) := ⟨fun γ => rfl, fun γ => rfl, fun γ z => by simp [cDT, gu], fun γ z q hq => dt_oth hq (fun h => absurd rfl h) (by decide) (by decide) (by decide) (by decide)⟩
theorem fD11 (E : EE) : FldK E 0 0 1 11 0 11 vI (cDT E.ad) := ⟨fun γ => rfl, fun γ => rfl, fun γ z => by simp [cDT, gu], fun γ z q hq => dt_oth hq (fun h => absurd rfl h) (by decide) (by decide) (by decide) (by decide)⟩
theorem fD12 (E : EE) : FldK E 0 0 1 12 0 12 vI (cDT E.ad) := ⟨fun γ => rfl, fun γ => rfl, fun γ z => by simp [cDT, gu], fun γ z q hq => dt_oth hq (fun h => absurd rfl h) (by decide) (by decide) (by decide) (by decide)⟩
theorem st_oth {E : EE} {γ : GG} {k r f i : Nat} {x : Int} {q : Nat} (hk : k < 13) (hr : r < 31) (hq : q ≠ 11 + 31 * k + r) (h0 : r ≠ 0 → ∀ g, [0, 1, 2, 8, 10].contains g = true → ¬ (g = f ∧ 0 = i)) (h1 : ∀ r', 2 ≤ r' → r' < 8 → r' ≠ r → sB (r' - 2) ≠ f) (h2 : ∀ r', 8 ≤ r' → r' ≠ r → ∀ g, 21 ≤ g → ¬ (g = f ∧ r' - 8 = i)) : cellOf E (gu γ (2 + k) f i x) q = cellOf E γ q := by
  by_cases a : q < 11
  · exact cell_o (fun _ => by omega) (fun _ _ _ _ => by omega) (fun _ => by omega)
  · by_cases b : q < 414
    · obtain ⟨k', r', hk', hr', rfl⟩ := st_key (Nat.le_of_not_lt a) b
      by_cases c : k' = k
      · subst c
        have hne : r' ≠ r := fun e => hq (by rw [e])
        rw [cell_st hk' hr', cell_st hk' hr']
        refine st_cong (fun e => ?_) (fun e1 e2 => gu_f (h1 r' e1 e2 hne)) (fun e g hg => gu_n (fun e2 => h2 r' e hne g hg e2.2))
        have h := h0 (fun z => hne (by rw [e, z]))
        exact ⟨gu_n (fun e => h 0 rfl e.2), gu_n (fun e => h 1 rfl e.2), gu_n (fun e => h 2 rfl e.2), gu_n (fun e => h 8 rfl e.2), gu_n (fun e => h 10 rfl e.2)⟩
      · exact cell_o (fun _ => by omega) (fun k2 _ _ _ => by omega) (fun _ => by omega)
    · exact cell_o (fun _ => by omega) (fun _ _ _ _ => by omega) (fun _ => by omega)
theorem aS4 (E : EE) {k : Nat} (hk : k < 13) : ArrK E 0 (13 + 31 * k) (2 + k) 4 12 := by
  have e : 13 + 31 * k = 11 + 31 * k + 2 := by omega
  rw [e]
  exact ⟨fun γ => by rw [cell_st hk (by omega)]; rfl, fun γ i x q hq => st_oth hk (by omega) hq (fun _ g hg e => by rw [e.1] at hg; revert hg; decide) (fun r' a b c => by rcases (show r' = 2 ∨ r' = 3 ∨ r' = 4 ∨ r' = 5 ∨ r' = 6 ∨ r' = 7 by omega) with rfl | rfl | rfl | rfl | rfl | rfl <;> first | (exact absurd rfl c) | decide) (fun r' _ _ g hg e => by omega)⟩
theorem aS5 (E : EE) {k : Nat} (hk : k < 13) : ArrK E 0 (14 + 31 * k) (2 + k) 5 12 := by
  have e : 14 + 31 * k = 11 + 31 * k + 3 := by omega
  rw [e]
  exact ⟨fun γ => by rw [cell_st hk (by omega)]; rfl, fun γ i x q hq => st_oth hk (by omega) hq (fun _ g hg e => by rw [e.1] at hg; revert hg; decide) (fun r' a b c => by rcases (show r' = 2 ∨ r' = 3 ∨ r' = 4 ∨ r' = 5 ∨ r' = 6 ∨ r' = 7 by omega) with rfl | rfl | rfl | rfl | rfl | rfl <;> first | (exact absurd rfl c) | decide) (fun r' _ _ g hg e => by omega)⟩
theorem aS6 (E : EE) {k : Nat} (hk : k < 13) : ArrK E 0 (15 + 31 * k) (2 + k) 6 12 := by
  have e : 15 + 31 * k = 11 + 31 * k + 4 := by omega
  rw [e]
  exact ⟨fun γ => by rw [cell_st hk (by omega)]; rfl, fun γ i x q hq => st_oth hk (by omega) hq (fun _ g hg e => by rw [e.1] at hg; revert hg; decide) (fun r' a b c => by rcases (show r' = 2 ∨ r' = 3 ∨ r' = 4 ∨ r' = 5 ∨ r' = 6 ∨ r' = 7 by omega) with rfl | rfl | rfl | rfl | rfl | rfl <;> first | (exact absurd rfl c) | decide) (fun r' _ _ g hg e => by omega)⟩
theorem aS7 (E : EE) {k : Nat} (hk : k < 13) : ArrK E 0 (16 + 31 * k) (2 + k) 7 12 := by
  have e : 16 + 31 * k = 11 + 31 * k + 5 := by omega
  rw [e]
  exact ⟨fun γ => by rw [cell_st hk (by omega)]; rfl, fun γ i x q hq => st_oth hk (by omega) hq (fun _ g hg e => by rw [e.1] at hg; revert hg; decide) (fun r' a b c => by rcases (show r' = 2 ∨ r' = 3 ∨ r' = 4 ∨ r' = 5 ∨ r' = 6 ∨ r' = 7 by omega) with rfl | rfl | rfl | rfl | rfl | rfl <;> first | (exact absurd rfl c) | decide) (fun r' _ _ g hg e => by omega)⟩
theorem aS9 (E : EE) {k : Nat} (hk : k < 13) : ArrK E 0 (17 + 31 * k) (2 + k) 9 12 := by
  have e : 17 + 31 * k = 11 + 31 * k + 6 := by omega
  rw [e]
  exact ⟨fun γ => by rw [cell_st hk (by omega)]; rfl, fun γ i x q hq => st_oth hk (by omega) hq (fun _ g hg e => by rw [e.1] at hg; revert hg; decide) (fun r' a b c => by rcases (show r' = 2 ∨ r' = 3 ∨ r' = 4 ∨ r' = 5 ∨ r' = 6 ∨ r' = 7 by omega) with rfl | rfl | rfl | rfl | rfl | rfl <;> first | (exact absurd rfl c) | decide) (fun r' _ _ g hg e => by omega)⟩
theorem aS11 (E : EE) {k : Nat} (hk : k < 13) : ArrK E 0 (18 + 31 * k) (2 + k) 11 12 := by
  have e : 18 + 31 * k = 11 + 31 * k + 7 := by omega
  rw [e]
  exact ⟨fun γ => by rw [cell_st hk (by omega)]; rfl, fun γ i x q hq => st_oth hk (by omega) hq (fun _ g hg e => by rw [e.1] at hg; revert hg; decide) (fun r' a b c => by rcases (show r' = 2 ∨ r' = 3 ∨ r' = 4 ∨ r' = 5 ∨ r' = 6 ∨ r' = 7 by omega) with rfl | rfl | rfl | rfl | rfl | rfl <;> first | (exact absurd rfl c) | decide) (fun r' _ _ g hg e => by omega)⟩
theorem fS0 (E : EE) {k : Nat} (hk : k < 13) : FldK E (11 + 31 * k) 1 (2 + k) 0 0 0 vI (fun γ => cSt E.ad γ k) := ⟨fun γ => by rw [show 11 + 31 * k = 11 + 31 * k + 0 from rfl, cell_st hk (by omega)]; rfl, fun γ => rfl, fun γ z => by simp [cSt, gu], fun γ z q hq => st_oth (r := 0) hk (by omega) hq (fun h => absurd rfl h) (fun r' a b c => by rcases (show r' = 2 ∨ r' = 3 ∨ r' = 4 ∨ r' = 5 ∨ r' = 6 ∨ r' = 7 by omega) with rfl | rfl | rfl | rfl | rfl | rfl <;> decide) (fun r' _ _ g hg e => by omega)⟩
theorem fS1 (E : EE) {k : Nat} (hk : k < 13) : FldK E (11 + 31 * k) 1 (2 + k) 1 0 1 vI (fun γ => cSt E.ad γ k) := ⟨fun γ => by rw [show 11 + 31 * k = 11 + 31 * k + 0 from rfl, cell_st hk (by omega)]; rfl, fun γ => rfl, fun γ z => by simp [cSt, gu], fun γ z q hq => st_oth (r := 0) hk (by omega) hq (fun h => absurd rfl h) (fun r' a b c => by rcases (show r' = 2 ∨ r' = 3 ∨ r' = 4 ∨ r' = 5 ∨ r' = 6 ∨ r' = 7 by omega) with rfl | rfl | rfl | rfl | rfl | rfl <;> decide) (fun r' _ _ g hg e => by omega)⟩
theorem fS8 (E : EE) {k : Nat} (hk : k < 13) : FldK E (11 + 31 * k) 1 (2 + k) 8 0 8 vI (fun γ => cSt E.ad γ k) := ⟨fun γ => by rw [show 11 + 31 * k = 11 + 31 * k + 0 from rfl, cell_st hk (by omega)]; rfl, fun γ => rfl, fun γ z => by simp [cSt, gu], fun γ z q hq => st_oth (r := 0) hk (by omega) hq (fun h => absurd rfl h) (fun r' a b c => by rcases (show r' = 2 ∨ r' = 3 ∨ r' = 4 ∨ r' = 5 ∨ r' = 6 ∨ r' = 7 by omega) with rfl | rfl | rfl | rfl | rfl | rfl <;> decide) (fun r' _ _ g hg e => by omega)⟩
theorem fS10 (E : EE) {k : Nat} (hk : k < 13) : FldK E (11 + 31 * k) 1 (2 + k) 10 0 10 vI (fun γ => cSt E.ad γ k) := ⟨fun γ => by rw [show 11 + 31 * k = 11 + 31 * k + 0 from rfl, cell_st hk (by omega)]; rfl, fun γ => rfl, fun γ z => by simp [cSt, gu], fun γ z q hq => st_oth (r := 0) hk (by omega) hq (fun h => absurd rfl h) (fun r' a b c => by rcases (show r' = 2 ∨ r' = 3 ∨ r' = 4 ∨ r' = 5 ∨ r' = 6 ∨ r' = 7 by omega) with rfl | rfl | rfl | rfl | rfl | rfl <;> decide) (fun r' _ _ g hg e => by omega)⟩
theorem fS2 (E : EE) {k : Nat} (hk : k < 13) : FldK E (11 + 31 * k) 1 (2 + k) 2 0 2 (vN E.ad k) (fun γ => cSt E.ad γ k) := ⟨fun γ => by rw [show 11 + 31 * k = 11 + 31 * k + 0 from rfl, cell_st hk (by omega)]; rfl, fun γ => rfl, fun γ z => by simp [cSt, gu], fun γ z q hq => st_oth (r := 0) hk (by omega) hq (fun h => absurd rfl h) (fun r' a b c => by rcases (show r' = 2 ∨ r' = 3 ∨ r' = 4 ∨ r' = 5 ∨ r' = 6 ∨ r' = 7 by omega) with rfl | rfl | rfl | rfl | rfl | rfl <;> decide) (fun r' _ _ g hg e => by omega)⟩
theorem fN1 (E : EE) {k j : Nat} (hk : k < 13) (hj : j < 23) : FldK E (19 + 31 * k + j) 2 (2 + k) 21 j 1 (vN E.ad k) (fun γ => cNd E.ad γ k j) := by
  have e : 19 + 31 * k + j = 11 + 31 * k + (8 + j) := by omega
  rw [e]
  exact ⟨fun γ => by rw [cell_st hk (by omega)]; simp only [stCell]; rw [if_neg (by omega), if_neg (by omega), if_neg (by omega), show 8 + j - 8 = j by omega], fun γ => rfl, fun γ z => by simp [cNd, gu], fun γ z q hq => st_oth hk (by omega) hq (fun _ g hg e => by rw [e.1] at hg; revert hg; decide) (fun r' a b c => by rcases (show r' = 2 ∨ r' = 3 ∨ r' = 4 ∨ r' = 5 ∨ r' = 6 ∨ r' = 7 by omega) with rfl | rfl | rfl | rfl | rfl | rfl <;> decide) (fun r' _ _ g hg e => by omega)⟩
theorem fN2 (E : EE) {k j : Nat} (hk : k < 13) (hj : j < 23) : FldK E (19 + 31 * k + j) 2 (2 + k) 22 j 2 (vN E.ad k) (fun γ => cNd E.ad γ k j) := by
  have e : 19 + 31 * k + j = 11 + 31 * k + (8 + j) := by omega
  rw [e]
  exact ⟨fun γ => by rw [cell_st hk (by omega)]; simp only [stCell]; rw [if_neg (by omega), if_neg (by omega), if_neg (by omega), show 8 + j - 8 = j by omega], fun γ => rfl, fun γ z => by simp [cNd, gu], fun γ z q hq => st_oth hk (by omega) hq (fun _ g hg e => by rw [e.1] at hg; revert hg; decide) (fun r' a b c => by rcases (show r' = 2 ∨ r' = 3 ∨ r' = 4 ∨ r' = 5 ∨ r' = 6 ∨ r' = 7 by omega) with rfl | rfl | rfl | rfl | rfl | rfl <;> decide) (fun r' _ _ g hg e => by omega)⟩
theorem fN3 (E : EE) {k j : Nat} (hk : k < 13) (hj : j < 23) : FldK E (19 + 31 * k + j) 2 (2 + k) 23 j 3 vI (fun γ => cNd E.ad γ k j) := by
  have e : 19 + 31 * k + j = 11 + 31 * k + (8 + j) := by omega
  rw [e]
  exact ⟨fun γ => by rw [cell_st hk (by omega)]; simp only [stCell]; rw [if_neg (by omega), if_neg (by omega), if_neg (by omega), show 8 + j - 8 = j by omega], fun γ => rfl, fun γ z => by simp [cNd, gu], fun γ z q hq => st_oth hk (by omega) hq (fun _ g hg e => by rw [e.1] at hg; revert hg; decide) (fun r' a b c => by rcases (show r' = 2 ∨ r' = 3 ∨ r' = 4 ∨ r' = 5 ∨ r' = 6 ∨ r' = 7 by omega) with rfl | rfl | rfl | rfl | rfl | rfl <;> decide) (fun r' _ _ g hg e => by omega)⟩
theorem fN4 (E : EE) {k j : Nat} (hk : k < 13) (hj : j < 23) : FldK E (19 + 31 * k + j) 2 (2 + k) 24 j 4 vI (fun γ => cNd E.ad γ k j) := by
  have e : 19 + 31 * k + j = 11 + 31 * k + (8 + j) := by omega
  rw [e]
  exact ⟨fun γ => by rw [cell_st hk (by omega)]; simp only [stCell]; rw [if_neg (by omega), if_neg (by omega), if_neg (by omega), show 8 + j - 8 = j by omega], fun γ => rfl, fun γ z => by simp [cNd, gu], fun γ z q hq => st_oth hk (by omega) hq (fun _ g hg e => by rw [e.1] at hg; revert hg; decide) (fun r' a b c => by rcases (show r' = 2 ∨ r' = 3 ∨ r' = 4 ∨ r' = 5 ∨ r' = 6 ∨ r' = 7 by omega) with rfl | rfl | rfl | rfl | rfl | rfl <;> decide) (fun r' _ _ g hg e => by omega)⟩
theorem fN5 (E : EE) {k j : Nat} (hk : k < 13) (hj : j < 23) : FldK E (19 + 31 * k + j) 2 (2 + k) 25 j 5 vI (fun γ => cNd E.ad γ k j) := by
  have e : 19 + 31 * k + j = 11 + 31 * k + (8 + j) := by omega
  rw [e]
  exact ⟨fun γ => by rw [cell_st hk (by omega)]; simp only [stCell]; rw [if_neg (by omega), if_neg (by omega), if_neg (by omega), show 8 + j - 8 = j by omega], fun γ => rfl, fun γ z => by simp [cNd, gu], fun γ z q hq => st_oth hk (by omega) hq (fun _ g hg e => by rw [e.1] at hg; revert hg; decide) (fun r' a b c => by rcases (show r' = 2 ∨ r' = 3 ∨ r' = 4 ∨ r' = 5 ∨ r' = 6 ∨ r' = 7 by omega) with rfl | rfl | rfl | rfl | rfl | rfl <;> decide) (fun r' _ _ g hg e => by omega)⟩
theorem fN6 (E : EE) {k j : Nat} (hk : k < 13) (hj : j < 23) : FldK E (19 + 31 * k + j) 2 (2 + k) 26 j 6 vI (fun γ => cNd E.ad γ k j) := by
  have e : 19 + 31 * k + j = 11 + 31 * k + (8 + j) := by omega
  rw [e]
  exact ⟨fun γ => by rw [cell_st hk (by omega)]; simp only [stCell]; rw [if_neg (by omega), if_neg (by omega), if_neg (by omega), show 8 + j - 8 = j by omega], fun γ => rfl, fun γ z => by simp [cNd, gu], fun γ z q hq => st_oth hk (by omega) hq (fun _ g hg e => by rw [e.1] at hg; revert hg; decide) (fun r' a b c => by rcases (show r' = 2 ∨ r' = 3 ∨ r' = 4 ∨ r' = 5 ∨ r' = 6 ∨ r' = 7 by omega) with rfl | rfl | rfl | rfl | rfl | rfl <;> decide) (fun r' _ _ g hg e => by omega)⟩
theorem cell_stO {E : EE} {γ : GG} {k : Nat} (hk : k < 13) : cellOf E γ (11 + 31 * k) = .inr (1, cSt E.ad γ k) := (fS0 E hk).1 γ
theorem cell_nd {E : EE} {γ : GG} {k j : Nat} (hk : k < 13) (hj : j < 23) : cellOf E γ (19 + 31 * k + j) = .inr (2, cNd E.ad γ k j) := (fN3 E hk hj).1 γ
theorem cell_nds {E : EE} {γ : GG} {k : Nat} (hk : k < 13) : cellOf E γ (12 + 31 * k) = .inl (E.cA 4, 23, refs (fun j => some (E.ad (19 + 31 * k + j)))) := by
  rw [show 12 + 31 * k = 11 + 31 * k + 1 by omega, cell_st hk (by omega)]
  rfl
theorem cell_mdO {E : EE} {γ : GG} : cellOf E γ 414 = .inr (7, cMd E.ad γ) := cell_md 0
