/-! further rows: bytes, longs, nodes and nulls; posts -/
theorem isB_n {o f : Nat} (h : [4, 5, 6, 7, 9, 11].contains f = false) : isB o f = false := by
  have h1 : f ≠ 4 ∧ f ≠ 5 ∧ f ≠ 6 ∧ f ≠ 7 ∧ f ≠ 9 ∧ f ≠ 11 := by
    refine ⟨?_, ?_, ?_, ?_, ?_, ?_⟩ <;> (intro e; subst e; revert h; decide)
  simp [isB, h1]
theorem noB {o f : Nat} {P : Prop} (h : [4, 5, 6, 7, 9, 11].contains f = false) : isB o f = true → P := fun q => by rw [isB_n h] at q; cases q
def lI (z : Int) : Int64 := Int64.ofInt z
abbrev LnR (z : Int) : Prop := -9223372036854775808 ≤ z ∧ z ≤ 9223372036854775807
theorem lI_toInt {z : Int} (h : LnR z) : (lI z).toInt = z := Int64.toInt_ofInt_of_le (by have := h.1; omega) (by have := h.2; omega)
theorem lI_add (a b : Int) : lI a + lI b = lI (a + b) := (Int64.ofInt_add a b).symm
theorem lI_sub (a b : Int) : lI a - lI b = lI (a - b) := (Int64.ofInt_sub a b).symm
theorem lI_mul (a b : Int) : lI a * lI b = lI (a * b) := (Int64.ofInt_mul a b).symm
theorem lI_nat (n : Nat) : lI (n : Int) = lN n := Int64.ofInt_eq_ofNat
theorem iI_l {z : Int} (h : InR z) : (iI z).toInt64 = lI z := by
  apply Int64.toInt_inj.mp
  rw [Int32.toInt_toInt64, iI_toInt h, lI_toInt ⟨by omega, by omega⟩]
theorem lI_i (z : Int) : (lI z).toInt32 = iI z := Int64.toInt32_ofInt
/-- a truth as a number -/
def b2i (p : Prop) [Decidable p] : Int := if p then 1 else 0
theorem b2i_t {p : Prop} [Decidable p] (h : p) : b2i p = 1 := if_pos h
theorem b2i_f {p : Prop} [Decidable p] (h : ¬ p) : b2i p = 0 := if_neg h
theorem b2i_0 {p : Prop} [Decidable p] : b2i p = 0 ↔ ¬ p := by unfold b2i; split <;> simp_all
theorem b2i_n0 {p : Prop} [Decidable p] : b2i p ≠ 0 ↔ p := by unfold b2i; split <;> simp_all
theorem b2i_R (p : Prop) [Decidable p] : InR (b2i p) := by unfold b2i; split <;> decide
theorem b2i_01 (p : Prop) [Decidable p] : b2i p = 0 ∨ b2i p = 1 := by unfold b2i; split <;> simp
theorem b2i_c {p q : Prop} [Decidable p] [Decidable q] (h : p ↔ q) : b2i p = b2i q := by unfold b2i; simp [h]
def pI (r : Int) (γ' : GG) : Option Value → GG → Prop := fun v g => v = some (.int (iI r)) ∧ γ' = g
def pV (γ' : GG) : Option Value → GG → Prop := fun v g => v = none ∧ γ' = g
def pR (w : Value) (γ' : GG) : Option Value → GG → Prop := fun v g => v = some w ∧ γ' = g
theorem rf_or (r : Option Nat) : va_rf r = .null ∨ ∃ a, va_rf r = .ref a := by cases r with
  | none => exact Or.inl rfl
  | some a => exact Or.inr ⟨a, rfl⟩
theorem nar_rf (C : String) (r : Option Nat) : narrow (.object C) (va_rf r) = va_rf r := by cases r <;> rfl
theorem fit_rf (C : String) (r : Option Nat) : fits (.object C) (va_rf r) = true := by cases r <;> rfl
theorem rf_isRef (r : Option Nat) : (va_rf r).isRef = true := by cases r <;> rfl
theorem onode_s {ad : Nat → Nat} {k j : Nat} {z : Int} (e : z = (j : Int)) : onode ad k z = some (ad (19 + 31 * k + j)) := by
  subst e
  unfold onode
  rw [if_neg (by omega), Int.toNat_natCast]
theorem onode_n {ad : Nat → Nat} {k : Nat} {z : Int} (e : z < 0) : onode ad k z = none := if_pos e
theorem tb_and1 (a j : Nat) : (a / 2 ^ j) &&& 1 = (a.testBit j).toNat := by
  rw [Nat.and_one_is_mod, Nat.testBit_eq_decide_div_mod_eq]
  rcases Nat.mod_two_eq_zero_or_one (a / 2 ^ j) with h | h <;> simp [h]
section MO
variable {Φ : PH} {cc : ByteArray} {own : String} {nL : Nat} {ret : Option FieldType} {post : Option Value → GG → Prop} {mc ms : Nat} {γ : GG} {k n pc : Nat} {lv lv' : List (Nat × Value)} {st : List Value}
theorem w_i2b (F : Fx Φ cc own nL ret post mc ms) {z : Int} (hdg : decode cc pc = .ok (.i2b, 1)) (h1 : -128 ≤ z) (h2 : z ≤ 127) (h : Wg Φ nL γ k n (pc + 1) lv (.int (iI z) :: st)) : Wg Φ nL γ k n pc lv (.int (iI z) :: st) := fun H locs ls hW hS hl => lv_i2b F.x F.b hdg (by rw [← vp_nar_byte]; exact nar_byte h1 h2) (h H locs ls hW hS hl)
theorem w_i2l (F : Fx Φ cc own nL ret post mc ms) {z : Int} (hdg : decode cc pc = .ok (.i2l, 1)) (hz : InR z) (h : Wg Φ nL γ k n (pc + 1) lv (.long (lI z) :: st)) : Wg Φ nL γ k n pc lv (.int (iI z) :: st) := fun H locs ls hW hS hl => lv_i2l F.x F.b hdg (iI_l hz) (h H locs ls hW hS hl)
theorem w_l2i (F : Fx Φ cc own nL ret post mc ms) {z : Int} (hdg : decode cc pc = .ok (.l2i, 1)) (h : Wg Φ nL γ k n (pc + 1) lv (.int (iI z) :: st)) : Wg Φ nL γ k n pc lv (.long (lI z) :: st) := fun H locs ls hW hS hl => lv_l2i F.x F.b hdg (lI_i z) (h H locs ls hW hS hl)
theorem w_lconst (F : Fx Φ cc own nL ret post mc ms) {q : Fin 2} (hdg : decode cc pc = .ok (.lconst q, 1)) (h : Wg Φ nL γ k n (pc + 1) lv (.long (lI ((q : Nat) : Int)) :: st)) : Wg Φ nL γ k n pc lv st := fun H locs ls hW hS hl => lv_lconst F.x F.b hdg (lI_nat _).symm (h H locs ls hW hS hl)
theorem w_ldc2 (F : Fx Φ cc own nL ret post mc ms) {index : Nat} {x : Int64} (hq : Cond.constantLong own index x ∈ lw_all) (hdg : decode cc pc = .ok (.ldc2_w index, 3)) (h : Wg Φ nL γ k n (pc + 3) lv (.long (lI x.toInt) :: st)) : Wg Φ nL γ k n pc lv st := fun H locs ls hW hS hl => lv_ldc2 F.x F.b F.ow (F.ts _ hq) hdg ((Int64.ofInt_toInt x) ▸ h H locs ls hW hS hl)
theorem w_ldc (F : Fx Φ cc own nL ret post mc ms) {index : Nat} {x : Int32} (hq : Cond.constant own index x ∈ lw_all) (hdg : decode cc pc = .ok (.ldc index, 2)) (h : Wg Φ nL γ k n (pc + 2) lv (.int (iI x.toInt) :: st)) : Wg Φ nL γ k n pc lv st := fun H locs ls hW hS hl => lv_ldc F.x F.b F.ow (F.ts _ hq) hdg ((Int32.ofInt_toInt x) ▸ h H locs ls hW hS hl)
theorem w_ldc_w (F : Fx Φ cc own nL ret post mc ms) {index : Nat} {x : Int32} (hq : Cond.constant own index x ∈ lw_all) (hdg : decode cc pc = .ok (.ldc_w index, 3)) (h : Wg Φ nL γ k n (pc + 3) lv (.int (iI x.toInt) :: st)) : Wg Φ nL γ k n pc lv st := fun H locs ls hW hS hl => lv_ldcw F.x F.b F.ow (F.ts _ hq) hdg ((Int32.ofInt_toInt x) ▸ h H locs ls hW hS hl)
theorem w_lmul (F : Fx Φ cc own nL ret post mc ms) {a b : Int} (hdg : decode cc pc = .ok (.lmul, 1)) (h : Wg Φ nL γ k n (pc + 1) lv (.long (lI (a * b)) :: st)) : Wg Φ nL γ k n pc lv (.long (lI b) :: .long (lI a) :: st) := fun H locs ls hW hS hl => lv_lmul F.x F.b hdg (lI_mul a b ▸ h H locs ls hW hS hl)
theorem w_ladd (F : Fx Φ cc own nL ret post mc ms) {a b : Int} (hdg : decode cc pc = .ok (.ladd, 1)) (h : Wg Φ nL γ k n (pc + 1) lv (.long (lI (a + b)) :: st)) : Wg Φ nL γ k n pc lv (.long (lI b) :: .long (lI a) :: st) := fun H locs ls hW hS hl => lv_ladd F.x F.b hdg (lI_add a b ▸ h H locs ls hW hS hl)
theorem w_lrem (F : Fx Φ cc own nL ret post mc ms) {a d : Nat} (hdg : decode cc pc = .ok (.lrem, 1)) (ha : a < 2 ^ 63) (h0 : 0 < d) (hd : d < 2 ^ 63) (h : Wg Φ nL γ k n (pc + 1) lv (.long (lI ((a % d : Nat) : Int)) :: st)) : Wg Φ nL γ k n pc lv (.long (lI (d : Int)) :: .long (lI (a : Int)) :: st) := fun H locs ls hW hS hl => lv_lrem F.x F.b hdg (by rw [lI_nat]; intro e; exact absurd ((pk_lEQ hd (by decide)).mp (show lN d = lN 0 from e)) (by omega)) (by rw [lI_nat, lI_nat, pk_lRem ha h0 hd, ← lI_nat]; exact h H locs ls hW hS hl)
/-- lcmp and the branch behind it -/
theorem w_lcmp (F : Fx Φ cc own nL ret post mc ms) {a b : Int} (hdg : decode cc pc = .ok (.lcmp, 1)) (ha : LnR a) (hb : LnR b) (h : Wg Φ nL γ k n (pc + 1) lv (.int (iI (if a < b then -1 else if a = b then 0 else 1)) :: st)) : Wg Φ nL γ k n pc lv (.long (lI b) :: .long (lI a) :: st) := by
  intro H locs ls hW hS hl
  refine W.lcmp F.x F.b hdg ?_
  have e : lg_cmp (lI a) (lI b) = iI (if a < b then -1 else if a = b then 0 else 1) := by
    have h1 : lI b < lI a ↔ b < a := by rw [Int64.lt_iff_toInt_lt, lI_toInt ha, lI_toInt hb]
    have h2 : lI a = lI b ↔ a = b := by rw [← Int64.toInt_inj, lI_toInt ha, lI_toInt hb]
    unfold lg_cmp
    by_cases q : b < a
    · rw [if_pos (h1.mpr q), if_neg (by omega), if_neg (by omega)]; rfl
    · rw [if_neg (fun z => q (h1.mp z))]
      by_cases r : a = b
      · rw [if_pos (h2.mpr r), if_neg (by omega), if_pos r]; rfl
      · rw [if_neg (fun z => r (h2.mp z)), if_pos (by omega)]; rfl
  rw [e]
  exact h H locs ls hW hS hl
theorem w_nodes (F : Fx Φ cc own nL ret post mc ms) {i : Nat} (hi : i < 13) (hk : 12 + 31 * i < Φ.E.nk) {z : Int} (h0 : 0 ≤ z) (h1 : z < 23) (hdg : decode cc pc = .ok (.aaload, 1)) (h : Wg Φ nL γ k n (pc + 1) lv (.ref (Φ.E.ad (19 + 31 * i + z.toNat)) :: st)) : Wg Φ nL γ k n pc lv (.int (iI z) :: .ref (Φ.E.ad (12 + 31 * i)) :: st) := w_aald F (cell_nds hi) hk rfl (by decide) h0 h1 hdg h
theorem w_nodesN (F : Fx Φ cc own nL ret post mc ms) {i : Nat} (hi : i < 13) (hk : 12 + 31 * i < Φ.E.nk) {j : Nat} (h1 : j < 23) (hdg : decode cc pc = .ok (.aaload, 1)) (h : Wg Φ nL γ k n (pc + 1) lv (.ref (Φ.E.ad (19 + 31 * i + j)) :: st)) : Wg Φ nL γ k n pc lv (.int (iI (j : Int)) :: .ref (Φ.E.ad (12 + 31 * i)) :: st) := w_nodes F hi hk (by omega) (by omega) hdg h
theorem w_keptN (F : Fx Φ cc own nL ret post mc ms) (hk : 2 < Φ.E.nk) {j : Nat} (h1 : j < 2) (hdg : decode cc pc = .ok (.aaload, 1)) (h : Wg Φ nL γ k n (pc + 1) lv (.ref (Φ.E.ad (11 + 31 * (3 + j))) :: st)) : Wg Φ nL γ k n pc lv (.int (iI (j : Int)) :: .ref (Φ.E.ad 2) :: st) := w_aald F (key := 2) (t := 3) (cell_dt (by omega)) hk rfl (by decide) (z := (j : Int)) (by omega) (by omega) hdg h
theorem w_undosN (F : Fx Φ cc own nL ret post mc ms) (hk : 3 < Φ.E.nk) {j : Nat} (h1 : j < 8) (hdg : decode cc pc = .ok (.aaload, 1)) (h : Wg Φ nL γ k n (pc + 1) lv (.ref (Φ.E.ad (11 + 31 * (γ 1 6 j).toNat)) :: st)) : Wg Φ nL γ k n pc lv (.int (iI (j : Int)) :: .ref (Φ.E.ad 3) :: st) := w_aald F (key := 3) (t := 3) (cell_dt (by omega)) hk rfl (by decide) (z := (j : Int)) (by omega) (by omega) hdg h
/-- a node's reference, its number known; null -/
theorem w_toN {i j : Nat} {z : Int} (e : z = (j : Int)) (h : Wg Φ nL γ k n pc lv (.ref (Φ.E.ad (19 + 31 * i + j)) :: st)) : Wg Φ nL γ k n pc lv (va_rf (onode Φ.E.ad i z) :: st) := by rw [onode_s e]; exact h
theorem w_toNull {i : Nat} {z : Int} (e : z < 0) (h : Wg Φ nL γ k n pc lv (.null :: st)) : Wg Φ nL γ k n pc lv (va_rf (onode Φ.E.ad i z) :: st) := by rw [onode_n e]; exact h
theorem w_frN {i j : Nat} (h : Wg Φ nL γ k n pc lv (va_rf (onode Φ.E.ad i (j : Int)) :: st)) : Wg Φ nL γ k n pc lv (.ref (Φ.E.ad (19 + 31 * i + j)) :: st) := by rw [onode_s rfl] at h; exact h
theorem w_ifnull (F : Fx Φ cc own nL ret post mc ms) {i : Nat} {z : Int} {off : Int} {tgt : Nat} (hdg : decode cc pc = .ok (.ifnull off, 3)) (ht' : (pc : Int) + off = (tgt : Int)) (ht : z < 0 → Wg Φ nL γ k n tgt lv st) (hf : 0 ≤ z → Wg Φ nL γ k n (pc + 3) lv st) : Wg Φ nL γ k n pc lv (va_rf (onode Φ.E.ad i z) :: st) := by
  intro H locs ls hW hS hl
  by_cases h : z < 0
  · rw [onode_n h]; exact lv_ifnullN F.x F.b hdg ht' (ht h H locs ls hW hS hl)
  · rw [onode_s (j := z.toNat) (by omega)]; exact lv_ifnull F.x F.b hdg (hf (by omega) H locs ls hW hS hl)
theorem w_ifnonnull (F : Fx Φ cc own nL ret post mc ms) {i : Nat} {z : Int} {off : Int} {tgt : Nat} (hdg : decode cc pc = .ok (.ifnonnull off, 3)) (ht' : (pc : Int) + off = (tgt : Int)) (ht : 0 ≤ z → Wg Φ nL γ k n tgt lv st) (hf : z < 0 → Wg Φ nL γ k n (pc + 3) lv st) : Wg Φ nL γ k n pc lv (va_rf (onode Φ.E.ad i z) :: st) := by
  intro H locs ls hW hS hl
  by_cases h : z < 0
  · rw [onode_n h]; exact lv_ifnonnullN F.x F.b hdg (hf h H locs ls hW hS hl)
  · rw [onode_s (j := z.toNat) (by omega)]; exact lv_ifnonnull F.x F.b hdg ht' (ht (by omega) H locs ls hW hS hl)
end MO
def lmem : List Nat → Nat → Bool
  | [], _ => false
  | a :: r, i => bif Nat.beq a i then true else lmem r i
def lkeep : List (Nat × Value) → List Nat → List (Nat × Value)
  | [], _ => []
  | q :: r, ks => bif lmem ks q.1 then q :: lkeep r ks else lkeep r ks
theorem lkeep_sub : ∀ {lv : List (Nat × Value)} {ks : List Nat}, ∀ q ∈ lkeep lv ks, q ∈ lv
  | [], ks, q, h => by cases h
  | a :: r, ks, q, h => by
    unfold lkeep at h
    cases hb : lmem ks a.1 with
    | true =>
      rw [hb] at h
      rcases List.mem_cons.mp h with e | e
      · rw [e]; exact List.mem_cons_self
      · exact List.mem_cons_of_mem _ (lkeep_sub q e)
    | false =>
      rw [hb] at h
      exact List.mem_cons_of_mem _ (lkeep_sub q h)
theorem w_keep {Φ : PH} {nL : Nat} {γ : GG} {k n pc : Nat} {lv lv' : List (Nat × Value)} {st : List Value} (ks : List Nat) (hl : lkeep lv ks = lv') (h : Wg Φ nL γ k n pc lv' st) : Wg Φ nL γ k n pc lv st := w_loc (hl ▸ lkeep_sub) h
section TSW
variable {Φ : PH} {cc : ByteArray} {own : String} {nL : Nat} {ret : Option FieldType} {post : Option Value → GG → Prop} {mc ms : Nat} {γ : GG} {k n pc : Nat} {lv lv' : List (Nat × Value)} {st : List Value}
theorem w_tabIn (F : Fx Φ cc own nL ret post mc ms) {dflt lo hi : Int} {offs : Array Int} {len : Nat} {z off : Int} {tgt : Nat} (hdg : decode cc pc = .ok (.tableswitch dflt lo hi offs, len)) (hz : InR z) (h1 : lo ≤ z) (h2 : z ≤ hi) (ho : offs[(z - lo).toNat]? = some off) (ht : (pc : Int) + off = (tgt : Int)) (h : Wg Φ nL γ k n tgt lv st) : Wg Φ nL γ k n pc lv (.int (iI z) :: st) := fun H locs ls hW hS hl => lv_tableIn F.x F.b hdg (by rw [iI_toInt hz]; omega) (by rw [iI_toInt hz]; omega) (by rw [iI_toInt hz]; exact ho) ht (h H locs ls hW hS hl)
theorem w_tabOut (F : Fx Φ cc own nL ret post mc ms) {dflt lo hi : Int} {offs : Array Int} {len : Nat} {z : Int} {tgt : Nat} (hdg : decode cc pc = .ok (.tableswitch dflt lo hi offs, len)) (hz : InR z) (h1 : z < lo ∨ hi < z) (ht : (pc : Int) + dflt = (tgt : Int)) (h : Wg Φ nL γ k n tgt lv st) : Wg Φ nL γ k n pc lv (.int (iI z) :: st) := fun H locs ls hW hS hl => lv_tableOut F.x F.b hdg (by rw [iI_toInt hz]; exact h1) ht (h H locs ls hW hS hl)
end TSW
