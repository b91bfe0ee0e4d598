/-! BASE: numbers, the picture of the whole heap, the abstract walk Wg, contracts Ct -/
def iI (z : Int) : Int32 := Int32.ofInt z
abbrev InR (z : Int) : Prop := -2147483648 ≤ z ∧ z ≤ 2147483647
theorem iI_toInt {z : Int} (h : InR z) : (iI z).toInt = z := Int32.toInt_ofInt_of_le (by have := h.1; omega) (by have := h.2; omega)
theorem iI_add (a b : Int) : iI a + iI b = iI (a + b) := (Int32.ofInt_add a b).symm
theorem iI_sub (a b : Int) : iI a - iI b = iI (a - b) := (Int32.ofInt_sub a b).symm
theorem iI_mul (a b : Int) : iI a * iI b = iI (a * b) := (Int32.ofInt_mul a b).symm
theorem iI_neg (a : Int) : -iI a = iI (-a) := (Int32.ofInt_neg a).symm
theorem iI_of (x : Int32) : x = iI x.toInt := (Int32.ofInt_toInt x).symm
theorem iI_inR (x : Int32) : InR x.toInt := ⟨by have := x.le_toInt; omega, by have := x.toInt_lt; omega⟩
theorem iI_nat (n : Nat) : iI (n : Int) = nI n := Int32.ofInt_eq_ofNat
theorem iI_lt {a b : Int} (ha : InR a) (hb : InR b) : iI a < iI b ↔ a < b := by rw [Int32.lt_iff_toInt_lt, iI_toInt ha, iI_toInt hb]
theorem iI_le {a b : Int} (ha : InR a) (hb : InR b) : iI a ≤ iI b ↔ a ≤ b := by rw [Int32.le_iff_toInt_le, iI_toInt ha, iI_toInt hb]
theorem iI_eq {a b : Int} (ha : InR a) (hb : InR b) : iI a = iI b ↔ a = b := by rw [← Int32.toInt_inj, iI_toInt ha, iI_toInt hb]
theorem iI_0 : iI 0 = 0 := rfl
theorem inR0 : InR 0 := ⟨by decide, by decide⟩
theorem iI_clamp {z : Int} (h : InR z) (h0 : 0 ≤ z) : (iI z).toNatClampNeg = z.toNat := by
  show (iI z).toInt.toNat = z.toNat
  rw [iI_toInt h]
theorem iI_in {z : Int} {n : Nat} (h0 : 0 ≤ z) (h1 : z < n) (hn : n < 2 ^ 31) : vp_in (iI z) n := by
  rw [vp_in_iff, iI_toInt ⟨by omega, by omega⟩]
  exact ⟨h0, h1⟩
/-- the picture: group, field, index -/
abbrev GG : Type := Nat → Nat → Nat → Int
def gu (γ : GG) (o f i : Nat) (z : Int) : GG := fun a b c => if a = o ∧ b = f ∧ c = i then z else γ a b c
theorem gu_s (γ : GG) (o f i : Nat) (z : Int) : gu γ o f i z o f i = z := by simp [gu]
theorem gu_n {γ : GG} {o f i : Nat} {z : Int} {a b c : Nat} (h : ¬ (a = o ∧ b = f ∧ c = i)) : gu γ o f i z a b c = γ a b c := by simp only [gu]; rw [if_neg h]
theorem gu_o {γ : GG} {o f i : Nat} {z : Int} {a : Nat} (h : a ≠ o) : gu γ o f i z a = γ a := by
  funext b c
  exact gu_n (fun q => h q.1)
theorem gu_f {γ : GG} {o f i : Nat} {z : Int} {a b : Nat} (h : b ≠ f) : gu γ o f i z a b = γ a b := by
  funext c
  exact gu_n (fun q => h q.2.1)
/-- classes' numbers; addresses by key; array classes; how many keys; the state at the law's start -/
abbrev EE : Type := va_G × (Nat → Nat) × (Nat → ClassId) × Nat × State
abbrev EE.D (E : EE) : va_G := E.1
abbrev EE.ad (E : EE) : Nat → Nat := E.2.1
abbrev EE.cA (E : EE) : Nat → ClassId := E.2.2.1
abbrev EE.nk (E : EE) : Nat := E.2.2.2.1
abbrev EE.S (E : EE) : State := E.2.2.2.2
abbrev EE.bs (E : EE) : Nat := E.S.heap.size
def onode (ad : Nat → Nat) (k : Nat) (z : Int) : Option Nat := if z < 0 then none else some (ad (19 + 31 * k + z.toNat))
def cDT (ad : Nat → Nat) (γ : GG) : List Value := [.ref (ad 1), .ref (ad (11 + 31 * 0)), .ref (ad (11 + 31 * 1)), .ref (ad (11 + 31 * 2)), .ref (ad 2), .int (iI (γ 1 5 0)), .ref (ad 3), .int (iI (γ 1 7 0)), .int (iI (γ 1 8 0)), .ref (ad 4), .int (iI (γ 1 10 0)), .int (iI (γ 1 11 0)), .int (iI (γ 1 12 0)), .ref (ad 5), .ref (ad 6)]
def cSt (ad : Nat → Nat) (γ : GG) (k : Nat) : List Value := [.int (iI (γ (2 + k) 0 0)), .int (iI (γ (2 + k) 1 0)), va_rf (onode ad k (γ (2 + k) 2 0)), .ref (ad (12 + 31 * k)), .ref (ad (13 + 31 * k)), .ref (ad (14 + 31 * k)), .ref (ad (15 + 31 * k)), .ref (ad (16 + 31 * k)), .int (iI (γ (2 + k) 8 0)), .ref (ad (17 + 31 * k)), .int (iI (γ (2 + k) 10 0)), .ref (ad (18 + 31 * k)), .ref (ad 0)]
def cNd (ad : Nat → Nat) (γ : GG) (k j : Nat) : List Value := [.int (iI (j : Int)), va_rf (onode ad k (γ (2 + k) 21 j)), va_rf (onode ad k (γ (2 + k) 22 j)), .int (iI (γ (2 + k) 23 j)), .int (iI (γ (2 + k) 24 j)), .int (iI (γ (2 + k) 25 j)), .int (iI (γ (2 + k) 26 j))]
def cMd (ad : Nat → Nat) (γ : GG) : List Value := [.int (iI (γ 0 0 0)), .ref (ad 415), .ref (ad 416), .ref (ad 417), .ref (ad 418), .int (iI (γ 0 5 0)), .ref (ad 419), .ref (ad 420), .ref (ad 421), .ref (ad 422), .ref (ad 423), .int (iI (γ 0 11 0)), .ref (ad 424), .ref (ad 425), .ref (ad 426), .ref (ad 427), .ref (ad 428), .ref (ad 429), .ref (ad 430), .ref (ad 431), .int (iI (γ 0 20 0)), .ref (ad 432), .int (iI (γ 0 22 0)), .ref (ad 433), .ref (ad 434), .int (iI (γ 0 25 0)), .ref (ad 435), .ref (ad 436), .int (iI (γ 0 28 0)), .int (iI (γ 0 29 0)), .int (iI (γ 0 30 0)), .int (iI (γ 0 31 0)), .ref (ad 437)]
/-- the model's arrays in order of their keys: field, length -/
def mArr : List (Nat × Nat) := [(1, 12), (2, 12), (3, 12), (4, 12), (6, 24), (7, 24), (8, 24), (9, 24), (10, 24), (12, 24), (13, 12), (14, 24), (15, 24), (16, 24), (17, 24), (18, 24), (19, 1368), (21, 342), (23, 171), (24, 12), (26, 12), (27, 200), (32, 48)]
def mA (i : Nat) : Nat × Nat := mArr.getD i (99, 0)
abbrev ints (f : Nat → Int) : (Nat → Int32) ⊕ (Nat → Int64) ⊕ (Nat → UInt32) ⊕ (Nat → UInt64) ⊕ (Nat → Option Nat) := .inl (fun j => iI (f j))
abbrev refs (f : Nat → Option Nat) : (Nat → Int32) ⊕ (Nat → Int64) ⊕ (Nat → UInt32) ⊕ (Nat → UInt64) ⊕ (Nat → Option Nat) := .inr (.inr (.inr (.inr f)))
/-- the byte arrays of a State in order of their keys -/
def sB (r : Nat) : Nat := [4, 5, 6, 7, 9, 11].getD r 0
def dtCell (E : EE) (γ : GG) (key : Nat) : va_E := match key with
  | 0 => .inr (0, cDT E.ad γ)
  | 1 => .inl (E.cA 2, 4, refs (fun j => some (E.ad (7 + j))))
  | 2 => .inl (E.cA 3, 2, refs (fun j => some (E.ad (11 + 31 * (3 + j)))))
  | 3 => .inl (E.cA 3, 8, refs (fun j => some (E.ad (11 + 31 * (γ 1 6 j).toNat))))
  | 4 => .inl (E.cA 0, 200, ints (γ 1 9))
  | 5 => .inl (E.cA 1, 12, ints (γ 1 13))
  | 6 => .inl (E.cA 1, 12, ints (γ 1 14))
  | q => .inr (q - 4, [])
def stCell (E : EE) (γ : GG) (k r : Nat) : va_E :=
  if r = 0 then .inr (1, cSt E.ad γ k) else if r = 1 then .inl (E.cA 4, 23, refs (fun j => some (E.ad (19 + 31 * k + j)))) else if r < 8 then .inl (E.cA 0, 12, ints (γ (2 + k) (sB (r - 2)))) else .inr (2, cNd E.ad γ k (r - 8))
def mdCell (E : EE) (γ : GG) (i : Nat) : va_E := if i = 0 then .inr (7, cMd E.ad γ) else .inl (E.cA 1, (mA (i - 1)).2, ints (γ 0 (mA (i - 1)).1))
def cellOf (E : EE) (γ : GG) (key : Nat) : va_E := if key < 11 then dtCell E γ key else if key < 414 then stCell E γ ((key - 11) / 31) ((key - 11) % 31) else mdCell E γ (key - 414)
def wsOf (E : EE) (γ : GG) : va_W := (List.range E.nk).map (fun key => (E.ad key, cellOf E γ key))
theorem wsOf_at {E : EE} {γ : GG} {key : Nat} (h : key < E.nk) : (wsOf E γ)[key]? = some (E.ad key, cellOf E γ key) := by
  simp [wsOf, h]
theorem wsOf_set {E : EE} {γ γ' : GG} {key : Nat} {e : va_E} (he : cellOf E γ' key = e) (ho : ∀ q, q ≠ key → cellOf E γ' q = cellOf E γ q) : (wsOf E γ).set key (E.ad key, e) = wsOf E γ' := by
  refine List.ext_getElem? fun q => ?_
  by_cases hq : q = key
  · subst hq
    by_cases hl : q < E.nk
    · rw [List.getElem?_set_self (by simp [wsOf, hl]), wsOf_at hl, he]
    · rw [List.getElem?_eq_none (by simp [wsOf]; omega), List.getElem?_eq_none (by simp [wsOf]; omega)]
  · rw [List.getElem?_set_ne (Ne.symm hq)]
    by_cases hl : q < E.nk
    · rw [wsOf_at hl, wsOf_at hl, ho q hq]
    · rw [List.getElem?_eq_none (by simp [wsOf]; omega), List.getElem?_eq_none (by simp [wsOf]; omega)]
theorem cell_dt {E : EE} {γ : GG} {key : Nat} (h : key < 11) : cellOf E γ key = dtCell E γ key := by simp only [cellOf]; rw [if_pos h]
theorem cell_st {E : EE} {γ : GG} {k r : Nat} (hk : k < 13) (hr : r < 31) : cellOf E γ (11 + 31 * k + r) = stCell E γ k r := by
  simp only [cellOf]
  rw [if_neg (by omega), if_pos (by omega), show (11 + 31 * k + r - 11) / 31 = k by omega, show (11 + 31 * k + r - 11) % 31 = r by omega]
theorem cell_md {E : EE} {γ : GG} (i : Nat) : cellOf E γ (414 + i) = mdCell E γ i := by
  simp only [cellOf]
  rw [if_neg (by omega), if_neg (by omega), show 414 + i - 414 = i by omega]
/-- what hangs on which part of the picture -/
theorem cell_cong {E : EE} {γ γ' : GG} {q : Nat} (h1 : q < 11 → γ' 1 = γ 1) (h2 : ∀ k, 11 + 31 * k ≤ q → q < 42 + 31 * k → k < 13 → γ' (2 + k) = γ (2 + k)) (h3 : 414 ≤ q → γ' 0 = γ 0) : cellOf E γ' q = cellOf E γ q := by
  simp only [cellOf]
  by_cases a : q < 11
  · rw [if_pos a, if_pos a]
    have e := h1 a
    unfold dtCell cDT
    rw [e]
  · rw [if_neg a, if_neg a]
    by_cases b : q < 414
    · rw [if_pos b, if_pos b]
      have e := h2 ((q - 11) / 31) (by omega) (by omega) (by omega)
      unfold stCell cSt cNd
      rw [e]
    · rw [if_neg b, if_neg b]
      have e := h3 (by omega)
      unfold mdCell cMd
      rw [e]
/-- ints in range, bytes in theirs -/
def isB (o f : Nat) : Bool := (o == 1 && f == 9) || (2 ≤ o && (f == 4 || f == 5 || f == 6 || f == 7 || f == 9 || f == 11))
/-- a State's root, its nodes' parts: a node's number, or none -/
def isP (o f : Nat) : Bool := decide (2 ≤ o) && (f == 2 || f == 21 || f == 22)
theorem isP_n {o f : Nat} (h : [2, 21, 22].contains f = false) : isP o f = false := by
  simp only [List.contains_cons, List.contains_nil, Bool.or_false, Bool.or_eq_false_iff] at h
  unfold isP
  rw [h.1, h.2.1, h.2.2]
  simp
theorem noP {o f : Nat} {P : Prop} (h : [2, 21, 22].contains f = false) : isP o f = true → P := fun q => by rw [isP_n h] at q; cases q
def RgOk (γ : GG) : Prop := ∀ o f i, InR (γ o f i) ∧ (isB o f = true → -128 ≤ γ o f i ∧ γ o f i ≤ 127) ∧ (isP o f = true → -1 ≤ γ o f i ∧ γ o f i < 23)
theorem RgOk.up {γ : GG} (h : RgOk γ) {o f i : Nat} {z : Int} (hz : InR z) (hb : isB o f = true → -128 ≤ z ∧ z ≤ 127) (hp : isP o f = true → -1 ≤ z ∧ z < 23) : RgOk (gu γ o f i z) := by
  intro a b c
  by_cases q : a = o ∧ b = f ∧ c = i
  · obtain ⟨rfl, rfl, rfl⟩ := q
    rw [gu_s]
    exact ⟨hz, hb, hp⟩
  · rw [gu_n q]
    exact h a b c
abbrev vwCl : List vw_C := [(RX0, TX0, 15), (RX1, TX1, 13), (RX2, TX2, 7), (RX3, (fun _ => ("", "", "", false)), 0), (RX4, (fun _ => ("", "", "", false)), 0), (RX5, (fun _ => ("", "", "", false)), 0), (RX6, (fun _ => ("", "", "", false)), 0), (RX8, TX8, 33)]
abbrev tysOf (cA : Nat → ClassId) : List (ClassId × FieldType) := [(cA 0, .byte), (cA 1, .int), (cA 2, .object "DeadlineTree$Ranked"), (cA 3, .object "DeadlineTree$State"), (cA 4, .object "DeadlineTree$Node")]
def World (E : EE) (γ : GG) (H : Heap) : Prop := va_P E.D vwCl (wsOf E γ) H ∧ RgOk γ ∧ E.bs ≤ H.size ∧ ∀ q, q < E.bs → H[q]? = E.S.heap[q]?
def AdOk (E : EE) : Prop := (∀ i j, i < E.nk → j < E.nk → E.ad i = E.ad j → i = j) ∧ (∀ i, i < E.nk → E.bs ≤ E.ad i) ∧ 414 ≤ E.nk
theorem AdOk.D {E : EE} (h : AdOk E) (γ : GG) : va_D (fun q => E.bs ≤ q) (wsOf E γ) := by
  have key : ∀ (k : Nat) (q : Nat × va_E), (wsOf E γ)[k]? = some q → k < E.nk ∧ q.1 = E.ad k := by
    intro k q hk
    by_cases hl : k < E.nk
    · rw [wsOf_at hl] at hk
      cases hk
      exact ⟨hl, rfl⟩
    · rw [List.getElem?_eq_none (by simp [wsOf]; omega)] at hk
      cases hk
  refine ⟨fun i j p q hi hj hpq => ?_, fun k q hk => ?_⟩
  · obtain ⟨a1, a2⟩ := key i p hi
    obtain ⟨b1, b2⟩ := key j q hj
    exact h.1 i j a1 b1 (by rw [← a2, ← b2, hpq])
  · obtain ⟨a1, a2⟩ := key k q hk
    rw [a2]
    exact h.2.1 k a1
