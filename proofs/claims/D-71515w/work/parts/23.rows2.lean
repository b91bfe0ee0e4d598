/-! rows: branches, bits, division, returns -/
section BR
variable {Φ : PH} {cc : ByteArray} {own : String} {nL : Nat} {ret : Option FieldType} {post : Option Value → GG → Prop} {mc ms : Nat} {γ : GG} {k n pc : Nat} {lv lv' : List (Nat × Value)} {st : List Value}
theorem w_if_eq (F : Fx Φ cc own nL ret post mc ms) {z : Int} {off : Int} {tgt : Nat} (hdg : decode cc pc = .ok (.ifCond .eq off, 3)) (ht' : (pc : Int) + off = (tgt : Int)) (hz : InR z) (ht : z = 0 → Wg Φ nL γ k n tgt lv st) (hf : z ≠ 0 → Wg Φ nL γ k n (pc + 3) lv st) : Wg Φ nL γ k n pc lv (.int (iI z) :: st) := fun H locs ls hW hS hl => lv_if_eq F.x F.b hdg ht' (fun q => ht ((iI_eq hz inR0).mp q) H locs ls hW hS hl) (fun q => hf (fun e => q ((iI_eq hz inR0).mpr e)) H locs ls hW hS hl)
theorem w_if_ne (F : Fx Φ cc own nL ret post mc ms) {z : Int} {off : Int} {tgt : Nat} (hdg : decode cc pc = .ok (.ifCond .ne off, 3)) (ht' : (pc : Int) + off = (tgt : Int)) (hz : InR z) (ht : z ≠ 0 → Wg Φ nL γ k n tgt lv st) (hf : z = 0 → Wg Φ nL γ k n (pc + 3) lv st) : Wg Φ nL γ k n pc lv (.int (iI z) :: st) := fun H locs ls hW hS hl => lv_if_ne F.x F.b hdg ht' (fun q => ht (fun e => q ((iI_eq hz inR0).mpr e)) H locs ls hW hS hl) (fun q => hf ((iI_eq hz inR0).mp q) H locs ls hW hS hl)
theorem w_if_lt (F : Fx Φ cc own nL ret post mc ms) {z : Int} {off : Int} {tgt : Nat} (hdg : decode cc pc = .ok (.ifCond .lt off, 3)) (ht' : (pc : Int) + off = (tgt : Int)) (hz : InR z) (ht : z < 0 → Wg Φ nL γ k n tgt lv st) (hf : 0 ≤ z → Wg Φ nL γ k n (pc + 3) lv st) : Wg Φ nL γ k n pc lv (.int (iI z) :: st) := fun H locs ls hW hS hl => lv_if_lt F.x F.b hdg ht' (fun q => ht ((iI_lt hz inR0).mp q) H locs ls hW hS hl) (fun q => hf (Int.not_lt.mp (fun e => q ((iI_lt hz inR0).mpr e))) H locs ls hW hS hl)
theorem w_if_ge (F : Fx Φ cc own nL ret post mc ms) {z : Int} {off : Int} {tgt : Nat} (hdg : decode cc pc = .ok (.ifCond .ge off, 3)) (ht' : (pc : Int) + off = (tgt : Int)) (hz : InR z) (ht : 0 ≤ z → Wg Φ nL γ k n tgt lv st) (hf : z < 0 → Wg Φ nL γ k n (pc + 3) lv st) : Wg Φ nL γ k n pc lv (.int (iI z) :: st) := fun H locs ls hW hS hl => lv_if_ge F.x F.b hdg ht' (fun q => ht ((iI_le inR0 hz).mp q) H locs ls hW hS hl) (fun q => hf (Int.not_le.mp (fun e => q ((iI_le inR0 hz).mpr e))) H locs ls hW hS hl)
theorem w_if_gt (F : Fx Φ cc own nL ret post mc ms) {z : Int} {off : Int} {tgt : Nat} (hdg : decode cc pc = .ok (.ifCond .gt off, 3)) (ht' : (pc : Int) + off = (tgt : Int)) (hz : InR z) (ht : 0 < z → Wg Φ nL γ k n tgt lv st) (hf : z ≤ 0 → Wg Φ nL γ k n (pc + 3) lv st) : Wg Φ nL γ k n pc lv (.int (iI z) :: st) := fun H locs ls hW hS hl => lv_if_gt F.x F.b hdg ht' (fun q => ht ((iI_lt inR0 hz).mp q) H locs ls hW hS hl) (fun q => hf (Int.not_lt.mp (fun e => q ((iI_lt inR0 hz).mpr e))) H locs ls hW hS hl)
theorem w_if_le (F : Fx Φ cc own nL ret post mc ms) {z : Int} {off : Int} {tgt : Nat} (hdg : decode cc pc = .ok (.ifCond .le off, 3)) (ht' : (pc : Int) + off = (tgt : Int)) (hz : InR z) (ht : z ≤ 0 → Wg Φ nL γ k n tgt lv st) (hf : 0 < z → Wg Φ nL γ k n (pc + 3) lv st) : Wg Φ nL γ k n pc lv (.int (iI z) :: st) := fun H locs ls hW hS hl => lv_if_le F.x F.b hdg ht' (fun q => ht ((iI_le hz inR0).mp q) H locs ls hW hS hl) (fun q => hf (Int.not_le.mp (fun e => q ((iI_le hz inR0).mpr e))) H locs ls hW hS hl)
theorem w_icmp_eq (F : Fx Φ cc own nL ret post mc ms) {a b : Int} {off : Int} {tgt : Nat} (hdg : decode cc pc = .ok (.if_icmp .eq off, 3)) (ht' : (pc : Int) + off = (tgt : Int)) (ha : InR a) (hb : InR b) (ht : a = b → Wg Φ nL γ k n tgt lv st) (hf : a ≠ b → Wg Φ nL γ k n (pc + 3) lv st) : Wg Φ nL γ k n pc lv (.int (iI b) :: .int (iI a) :: st) := fun H locs ls hW hS hl => lv_icmp_eq F.x F.b hdg ht' (fun q => ht ((iI_eq ha hb).mp q) H locs ls hW hS hl) (fun q => hf (fun e => q ((iI_eq ha hb).mpr e)) H locs ls hW hS hl)
theorem w_icmp_ne (F : Fx Φ cc own nL ret post mc ms) {a b : Int} {off : Int} {tgt : Nat} (hdg : decode cc pc = .ok (.if_icmp .ne off, 3)) (ht' : (pc : Int) + off = (tgt : Int)) (ha : InR a) (hb : InR b) (ht : a ≠ b → Wg Φ nL γ k n tgt lv st) (hf : a = b → Wg Φ nL γ k n (pc + 3) lv st) : Wg Φ nL γ k n pc lv (.int (iI b) :: .int (iI a) :: st) := fun H locs ls hW hS hl => lv_icmp_ne F.x F.b hdg ht' (fun q => ht (fun e => q ((iI_eq ha hb).mpr e)) H locs ls hW hS hl) (fun q => hf ((iI_eq ha hb).mp q) H locs ls hW hS hl)
theorem w_icmp_lt (F : Fx Φ cc own nL ret post mc ms) {a b : Int} {off : Int} {tgt : Nat} (hdg : decode cc pc = .ok (.if_icmp .lt off, 3)) (ht' : (pc : Int) + off = (tgt : Int)) (ha : InR a) (hb : InR b) (ht : a < b → Wg Φ nL γ k n tgt lv st) (hf : b ≤ a → Wg Φ nL γ k n (pc + 3) lv st) : Wg Φ nL γ k n pc lv (.int (iI b) :: .int (iI a) :: st) := fun H locs ls hW hS hl => lv_icmp_lt F.x F.b hdg ht' (fun q => ht ((iI_lt ha hb).mp q) H locs ls hW hS hl) (fun q => hf (Int.not_lt.mp (fun e => q ((iI_lt ha hb).mpr e))) H locs ls hW hS hl)
theorem w_icmp_ge (F : Fx Φ cc own nL ret post mc ms) {a b : Int} {off : Int} {tgt : Nat} (hdg : decode cc pc = .ok (.if_icmp .ge off, 3)) (ht' : (pc : Int) + off = (tgt : Int)) (ha : InR a) (hb : InR b) (ht : b ≤ a → Wg Φ nL γ k n tgt lv st) (hf : a < b → Wg Φ nL γ k n (pc + 3) lv st) : Wg Φ nL γ k n pc lv (.int (iI b) :: .int (iI a) :: st) := fun H locs ls hW hS hl => lv_icmp_ge F.x F.b hdg ht' (fun q => ht ((iI_le hb ha).mp q) H locs ls hW hS hl) (fun q => hf (Int.not_le.mp (fun e => q ((iI_le hb ha).mpr e))) H locs ls hW hS hl)
theorem w_icmp_gt (F : Fx Φ cc own nL ret post mc ms) {a b : Int} {off : Int} {tgt : Nat} (hdg : decode cc pc = .ok (.if_icmp .gt off, 3)) (ht' : (pc : Int) + off = (tgt : Int)) (ha : InR a) (hb : InR b) (ht : b < a → Wg Φ nL γ k n tgt lv st) (hf : a ≤ b → Wg Φ nL γ k n (pc + 3) lv st) : Wg Φ nL γ k n pc lv (.int (iI b) :: .int (iI a) :: st) := fun H locs ls hW hS hl => lv_icmp_gt F.x F.b hdg ht' (fun q => ht ((iI_lt hb ha).mp q) H locs ls hW hS hl) (fun q => hf (Int.not_lt.mp (fun e => q ((iI_lt hb ha).mpr e))) H locs ls hW hS hl)
theorem w_icmp_le (F : Fx Φ cc own nL ret post mc ms) {a b : Int} {off : Int} {tgt : Nat} (hdg : decode cc pc = .ok (.if_icmp .le off, 3)) (ht' : (pc : Int) + off = (tgt : Int)) (ha : InR a) (hb : InR b) (ht : a ≤ b → Wg Φ nL γ k n tgt lv st) (hf : b < a → Wg Φ nL γ k n (pc + 3) lv st) : Wg Φ nL γ k n pc lv (.int (iI b) :: .int (iI a) :: st) := fun H locs ls hW hS hl => lv_icmp_le F.x F.b hdg ht' (fun q => ht ((iI_le ha hb).mp q) H locs ls hW hS hl) (fun q => hf (Int.not_le.mp (fun e => q ((iI_le ha hb).mpr e))) H locs ls hW hS hl)
theorem iI_div {a : Int} {d : Nat} (ha : 0 ≤ a) (h : InR a) (h0 : 0 < d) (hd : d < 2 ^ 31) : iI a / iI d = iI (a / d) := by
  obtain ⟨x, rfl⟩ := Int.eq_ofNat_of_zero_le ha
  have hx : x < 2 ^ 31 := by omega
  rw [iI_nat, iI_nat, pk_div hx h0 hd, ← iI_nat]
  rfl
theorem iI_rem {a : Int} {d : Nat} (ha : 0 ≤ a) (h : InR a) (h0 : 0 < d) (hd : d < 2 ^ 31) : iI a - iI a / iI d * iI d = iI (a % d) := by
  rw [iI_div ha h h0 hd, iI_mul, iI_sub]
  congr 1
  have := Int.emod_add_mul_ediv a d
  rw [Int.mul_comm] at this
  omega
theorem w_idiv (F : Fx Φ cc own nL ret post mc ms) {a d : Int} (hdg : decode cc pc = .ok (.idiv, 1)) (ha : 0 ≤ a) (h : InR a) (h0 : 0 < d) (hd : d < 2147483648) (kk : Wg Φ nL γ k n (pc + 1) lv (.int (iI (a / d)) :: st)) : Wg Φ nL γ k n pc lv (.int (iI d) :: .int (iI a) :: st) := by
  obtain ⟨x, rfl⟩ := Int.eq_ofNat_of_zero_le (Int.le_of_lt h0)
  exact fun H locs ls hW hS hl => lv_idiv F.x F.b hdg (by rw [iI_nat]; exact nI_ne0 (by omega) (by omega)) (by rw [iI_div (d := x) ha h (by omega) (by omega)]; exact kk H locs ls hW hS hl)
theorem w_irem (F : Fx Φ cc own nL ret post mc ms) {a d : Int} (hdg : decode cc pc = .ok (.irem, 1)) (ha : 0 ≤ a) (h : InR a) (h0 : 0 < d) (hd : d < 2147483648) (kk : Wg Φ nL γ k n (pc + 1) lv (.int (iI (a % d)) :: st)) : Wg Φ nL γ k n pc lv (.int (iI d) :: .int (iI a) :: st) := by
  obtain ⟨x, rfl⟩ := Int.eq_ofNat_of_zero_le (Int.le_of_lt h0)
  exact fun H locs ls hW hS hl => lv_irem F.x F.b hdg (by rw [iI_nat]; exact nI_ne0 (by omega) (by omega)) (by rw [iI_rem (d := x) ha h (by omega) (by omega)]; exact kk H locs ls hW hS hl)
theorem iI_bv (z : Int) : (iI z).toBitVec = BitVec.ofInt 32 z := rfl
theorem iI_and (a b : Nat) : iI (a : Int) &&& iI (b : Int) = iI ((a &&& b : Nat) : Int) := by
  rw [iI_nat, iI_nat, iI_nat]
  apply Int32.toBitVec_inj.mp
  show BitVec.ofNat 32 a &&& BitVec.ofNat 32 b = BitVec.ofNat 32 (a &&& b)
  apply BitVec.eq_of_toNat_eq
  simp [BitVec.toNat_and, Nat.and_mod_two_pow]
theorem iI_or (a b : Nat) : iI (a : Int) ||| iI (b : Int) = iI ((a ||| b : Nat) : Int) := by
  rw [iI_nat, iI_nat, iI_nat]
  apply Int32.toBitVec_inj.mp
  show BitVec.ofNat 32 a ||| BitVec.ofNat 32 b = BitVec.ofNat 32 (a ||| b)
  apply BitVec.eq_of_toNat_eq
  simp [BitVec.toNat_or, Nat.or_mod_two_pow]
theorem iI_not (z : Int) : iI z ^^^ iI (-1) = iI (-z - 1) := by
  have h : iI z ^^^ (-1) = ~~~ iI z := by
    apply Int32.toBitVec_inj.mp
    show (iI z).toBitVec ^^^ (-1#32) = ~~~ (iI z).toBitVec
    rw [show (-1#32) = BitVec.allOnes 32 from rfl, BitVec.xor_allOnes]
  have h2 : ~~~ iI z = - iI z - 1 := by
    apply Int32.toBitVec_inj.mp
    show ~~~ (iI z).toBitVec = -(iI z).toBitVec - 1#32
    rw [BitVec.neg_eq_not_add, BitVec.add_sub_cancel]
  show iI z ^^^ (-1) = _
  rw [h, h2, iI_neg, show (1 : Int32) = iI 1 from rfl, iI_sub]
theorem iI_andC {a b : Nat} (hb : b < 2 ^ 31) : iI (a : Int) &&& iI (-(b : Int) - 1) = iI ((a ^^^ (a &&& b) : Nat) : Int) := by
  rw [← iI_not, iI_nat, iI_nat, iI_nat]
  apply Int32.toBitVec_inj.mp
  show BitVec.ofNat 32 a &&& (BitVec.ofNat 32 b ^^^ (-1#32)) = BitVec.ofNat 32 (a ^^^ (a &&& b))
  rw [show (-1#32) = BitVec.allOnes 32 from rfl]
  apply BitVec.eq_of_getLsbD_eq
  intro i hi
  rw [BitVec.getLsbD_and, BitVec.getLsbD_xor, BitVec.getLsbD_allOnes, BitVec.getLsbD_ofNat, BitVec.getLsbD_ofNat, BitVec.getLsbD_ofNat, Nat.testBit_xor, Nat.testBit_and]
  simp only [hi, decide_true, Bool.true_and]
  cases a.testBit i <;> cases b.testBit i <;> rfl
theorem sh31 : ∀ j, j < 31 → ((nI j &&& 31).toBitVec.smod 32).toNat = j := by decide +kernel
theorem iI_shl1 {j : Nat} (h : j < 31) : (1 : Int32) <<< (iI (j : Int) &&& 31) = iI ((2 ^ j : Nat) : Int) := by
  have h1 := pk_shlN (n := 1) (nI j &&& 31) j (sh31 j h) (by have := Nat.pow_lt_pow_right (a := 2) (by decide) h; omega)
  rw [iI_nat, iI_nat, show (1 : Int32) = nI 1 from rfl, h1, Nat.one_mul]
theorem iI_shr {a j : Nat} (ha : a < 2 ^ 31) (h : j < 31) : iI (a : Int) >>> (iI (j : Int) &&& 31) = iI ((a / 2 ^ j : Nat) : Int) := by
  rw [iI_nat, iI_nat, iI_nat]
  exact pk_shrN ha _ j (sh31 j h)
theorem w_iand (F : Fx Φ cc own nL ret post mc ms) {a b : Nat} (hdg : decode cc pc = .ok (.iand, 1)) (kk : Wg Φ nL γ k n (pc + 1) lv (.int (iI ((a &&& b : Nat) : Int)) :: st)) : Wg Φ nL γ k n pc lv (.int (iI (b : Int)) :: .int (iI (a : Int)) :: st) := fun H locs ls hW hS hl => lv_iand F.x F.b hdg (iI_and a b ▸ kk H locs ls hW hS hl)
theorem w_iandC (F : Fx Φ cc own nL ret post mc ms) {a b : Nat} (hb : b < 2 ^ 31) (hdg : decode cc pc = .ok (.iand, 1)) (kk : Wg Φ nL γ k n (pc + 1) lv (.int (iI ((a ^^^ (a &&& b) : Nat) : Int)) :: st)) : Wg Φ nL γ k n pc lv (.int (iI (-(b : Int) - 1)) :: .int (iI (a : Int)) :: st) := fun H locs ls hW hS hl => lv_iand F.x F.b hdg (iI_andC hb ▸ kk H locs ls hW hS hl)
theorem w_ior (F : Fx Φ cc own nL ret post mc ms) {a b : Nat} (hdg : decode cc pc = .ok (.ior, 1)) (kk : Wg Φ nL γ k n (pc + 1) lv (.int (iI ((a ||| b : Nat) : Int)) :: st)) : Wg Φ nL γ k n pc lv (.int (iI (b : Int)) :: .int (iI (a : Int)) :: st) := fun H locs ls hW hS hl => lv_ior F.x F.b hdg (iI_or a b ▸ kk H locs ls hW hS hl)
theorem w_inot (F : Fx Φ cc own nL ret post mc ms) {z : Int} (hdg : decode cc pc = .ok (.ixor, 1)) (kk : Wg Φ nL γ k n (pc + 1) lv (.int (iI (-z - 1)) :: st)) : Wg Φ nL γ k n pc lv (.int (iI (-1)) :: .int (iI z) :: st) := fun H locs ls hW hS hl => lv_ixor F.x F.b hdg (iI_not z ▸ kk H locs ls hW hS hl)
theorem w_ishl1 (F : Fx Φ cc own nL ret post mc ms) {j : Nat} (hj : j < 31) (hdg : decode cc pc = .ok (.ishl, 1)) (kk : Wg Φ nL γ k n (pc + 1) lv (.int (iI ((2 ^ j : Nat) : Int)) :: st)) : Wg Φ nL γ k n pc lv (.int (iI (j : Int)) :: .int (iI 1) :: st) := fun H locs ls hW hS hl => lv_ishl F.x F.b hdg (iI_shl1 hj ▸ kk H locs ls hW hS hl)
theorem w_ishr (F : Fx Φ cc own nL ret post mc ms) {a j : Nat} (ha : a < 2 ^ 31) (hj : j < 31) (hdg : decode cc pc = .ok (.ishr, 1)) (kk : Wg Φ nL γ k n (pc + 1) lv (.int (iI ((a / 2 ^ j : Nat) : Int)) :: st)) : Wg Φ nL γ k n pc lv (.int (iI (j : Int)) :: .int (iI (a : Int)) :: st) := fun H locs ls hW hS hl => lv_ishr F.x F.b hdg (iI_shr ha hj ▸ kk H locs ls hW hS hl)
theorem w_val {x : Int32} {z : Int} (e : x = iI z) (h : Wg Φ nL γ k n pc lv (.int (iI z) :: st)) : Wg Φ nL γ k n pc lv (.int x :: st) := by subst e; exact h
theorem w_iret (F : Fx Φ cc own nL (some .int) post mc ms) {x : Int32} (hk : k ≤ mc) (hn : n ≤ ms) (hp : post (some (.int x)) γ) (hdg : decode cc pc = .ok (.ireturn, 1)) : Wg Φ nL γ k n pc lv [.int x] := by
  intro H locs ls hW hS hl
  refine W.widen hk hn ?_
  refine W.monoQ F.q ?_
  exact W.iret F.x F.b F.r (fun t ht hw => ⟨_, γ, rfl, hp, by rw [ht]; exact hW, hS.F ht⟩) hS.2.2 hdg F.lk
theorem w_zret (F : Fx Φ cc own nL (some .boolean) post mc ms) {z : Int} (hz : z = 0 ∨ z = 1) (hk : k ≤ mc) (hn : n ≤ ms) (hp : post (some (.int (iI z))) γ) (hdg : decode cc pc = .ok (.ireturn, 1)) : Wg Φ nL γ k n pc lv [.int (iI z)] := by
  intro H locs ls hW hS hl
  refine W.widen hk hn ?_
  refine W.monoQ F.q ?_
  exact W.zret F.x F.b F.r (by rcases hz with e | e <;> subst e <;> rfl) (fun t ht hw => ⟨_, γ, rfl, hp, by rw [ht]; exact hW, hS.F ht⟩) hS.2.2 hdg F.lk
theorem w_vret (F : Fx Φ cc own nL none post mc ms) (hk : k ≤ mc) (hn : n ≤ ms) (hp : post none γ) (hdg : decode cc pc = .ok (.return_, 1)) : Wg Φ nL γ k n pc lv [] := by
  intro H locs ls hW hS hl
  refine W.widen hk hn ?_
  refine W.monoQ F.q ?_
  exact W.vret F.x F.b F.r (fun t ht hw => ⟨_, γ, rfl, hp, by rw [ht]; exact hW, hS.F ht⟩) hS.2.2 hdg F.lk
theorem w_aret {N : String} (F : Fx Φ cc own nL (some (.object N)) post mc ms) {v : Value} (hv : v = .null ∨ ∃ a, v = .ref a) (hk : k ≤ mc) (hn : n ≤ ms) (hp : post (some v) γ) (hdg : decode cc pc = .ok (.areturn, 1)) : Wg Φ nL γ k n pc lv [v] := by
  intro H locs ls hW hS hl
  refine W.widen hk hn ?_
  refine W.monoQ F.q ?_
  exact W.aret F.x F.b F.r (Or.inl ⟨_, rfl⟩) hv (fun t ht hw => ⟨_, γ, rfl, hp, by rw [ht]; exact hW, hS.F ht⟩) hS.2.2 hdg F.lk
end BR
