/-! more rows: references compared, unsigned shifts -/
theorem rf_cat (r : Option Nat) : (va_rf r).category = 1 := by cases r <;> rfl
theorem su_31 : ∀ n, n < 31 → (((nI n).toUInt32 &&& Int32.toUInt32 31).toBitVec % 32).toNat = n := by decide +kernel
theorem iI_ushr {a j : Nat} (ha : a < 2 ^ 31) (h : j < 31) : ((iI (a : Int)).toUInt32 >>> ((iI (j : Int)).toUInt32 &&& Int32.toUInt32 31)).toInt32 = iI ((a / 2 ^ j : Nat) : Int) := by
  apply Int32.toBitVec_inj.1
  show ((iI (a : Int)).toUInt32 >>> ((iI (j : Int)).toUInt32 &&& Int32.toUInt32 31)).toBitVec = BitVec.ofInt 32 _
  rw [UInt32.toBitVec_shiftRight, iI_nat j]
  show BitVec.ofInt 32 (a : Int) >>> (((nI j).toUInt32 &&& Int32.toUInt32 31).toBitVec % 32).toNat = _
  rw [su_31 j h]
  apply BitVec.eq_of_toNat_eq
  have hd : a / 2 ^ j ≤ a := Nat.div_le_self _ _
  rw [BitVec.toNat_ushiftRight, Nat.shiftRight_eq_div_pow, BitVec.ofInt_natCast, BitVec.ofInt_natCast, BitVec.toNat_ofNat, BitVec.toNat_ofNat, Nat.mod_eq_of_lt (by omega), Nat.mod_eq_of_lt (by omega)]
theorem iI_xor (a b : Nat) : iI (a : Int) ^^^ iI (b : Int) = iI ((a ^^^ b : Nat) : Int) := by
  apply Int32.toBitVec_inj.1
  show BitVec.ofInt 32 (a : Int) ^^^ BitVec.ofInt 32 (b : Int) = BitVec.ofInt 32 _
  rw [BitVec.ofInt_natCast, BitVec.ofInt_natCast, BitVec.ofInt_natCast]
  apply BitVec.eq_of_getLsbD_eq
  intro i hi
  simp [hi]
section R3
variable {Φ : PH} {cc : ByteArray} {own : String} {nL : Nat} {ret : Option FieldType} {post : Option Value → GG → Prop} {mc ms : Nat} {γ : GG} {k n pc : Nat} {lv lv' : List (Nat × Value)} {st : List Value}
theorem w_iushr (F : Fx Φ cc own nL ret post mc ms) {a j : Nat} (ha : a < 2 ^ 31) (hj : j < 31) (hdg : decode cc pc = .ok (.iushr, 1)) (h : Wg Φ nL γ k n (pc + 1) lv (.int (iI ((a / 2 ^ j : Nat) : Int)) :: st)) : Wg Φ nL γ k n pc lv (.int (iI (j : Int)) :: .int (iI (a : Int)) :: st) := fun H locs ls hW hS hl => lv_iushr F.x F.b hdg (iI_ushr ha hj) (h H locs ls hW hS hl)
theorem w_ixorN (F : Fx Φ cc own nL ret post mc ms) {a b : Nat} (hdg : decode cc pc = .ok (.ixor, 1)) (h : Wg Φ nL γ k n (pc + 1) lv (.int (iI ((a ^^^ b : Nat) : Int)) :: st)) : Wg Φ nL γ k n pc lv (.int (iI (b : Int)) :: .int (iI (a : Int)) :: st) := fun H locs ls hW hS hl => lv_ixor F.x F.b hdg (iI_xor a b ▸ h H locs ls hW hS hl)
theorem onode_inj (F : Fx Φ cc own nL ret post mc ms) {i : Nat} {z w : Int} (hi : i < 13) (hz : -1 ≤ z ∧ z < 23) (hw : -1 ≤ w ∧ w < 23) : onode Φ.E.ad i z = onode Φ.E.ad i w ↔ z = w := by
  have h4 := F.ok.1.2.2
  constructor
  · intro h
    by_cases e1 : z < 0
    · by_cases e2 : w < 0
      · omega
      · rw [onode_n e1, onode_s (j := w.toNat) (by omega)] at h; cases h
    · by_cases e2 : w < 0
      · rw [onode_n e2, onode_s (j := z.toNat) (by omega)] at h; cases h
      · rw [onode_s (j := z.toNat) (by omega), onode_s (j := w.toNat) (by omega)] at h
        have := F.ok.1.1 _ _ (by omega) (by omega) (Option.some.inj h)
        omega
  · intro h; rw [h]
theorem w_acmp_eq (F : Fx Φ cc own nL ret post mc ms) {i : Nat} {z w : Int} {off : Int} {tgt : Nat} (hdg : decode cc pc = .ok (.if_acmp .eq off, 3)) (ht' : (pc : Int) + off = (tgt : Int)) (hi : i < 13) (hz : -1 ≤ z ∧ z < 23) (hw : -1 ≤ w ∧ w < 23) (ht : z = w → Wg Φ nL γ k n tgt lv st) (hf : z ≠ w → Wg Φ nL γ k n (pc + 3) lv st) : Wg Φ nL γ k n pc lv (va_rf (onode Φ.E.ad i w) :: va_rf (onode Φ.E.ad i z) :: st) := fun H locs ls hW hS hl => lv_acmp_eq F.x F.b hdg ht' (fun q => ht ((onode_inj F hi hz hw).mp q) H locs ls hW hS hl) (fun q => hf (fun e => q ((onode_inj F hi hz hw).mpr e)) H locs ls hW hS hl)
theorem w_acmp_ne (F : Fx Φ cc own nL ret post mc ms) {i : Nat} {z w : Int} {off : Int} {tgt : Nat} (hdg : decode cc pc = .ok (.if_acmp .ne off, 3)) (ht' : (pc : Int) + off = (tgt : Int)) (hi : i < 13) (hz : -1 ≤ z ∧ z < 23) (hw : -1 ≤ w ∧ w < 23) (ht : z ≠ w → Wg Φ nL γ k n tgt lv st) (hf : z = w → Wg Φ nL γ k n (pc + 3) lv st) : Wg Φ nL γ k n pc lv (va_rf (onode Φ.E.ad i w) :: va_rf (onode Φ.E.ad i z) :: st) := fun H locs ls hW hS hl => lv_acmp_ne F.x F.b hdg ht' (fun q => ht (fun e => q ((onode_inj F hi hz hw).mpr e)) H locs ls hW hS hl) (fun q => hf ((onode_inj F hi hz hw).mp q) H locs ls hW hS hl)
end R3
/-! methods of a class of which some are run by an entry: no row for this one -/
theorem Met.ofF {l : Launch} {y : MethodName} {ws ws' : List Cond} {rm : Room} {Pc : Array Value → State → Prop} {Qc : Array Value → State → Outcome → State → Prop} {mc ms : Nat} {free : Addr → Prop} {cc : ByteArray} {maxL : Nat} {ret : Option FieldType} (hy : plainFor y = true) (hw : ws = Cond.code y cc maxL ret :: ws')
    (body : ∀ p e s m args below meth c s₁, BodyLoose p l y (headSpec ws rm) cc maxL ret e s m args below meth c s₁ → c.maxLocals = maxL → Pc args s → W p l e (headSpec ws rm).room s m args below meth c s.heap [] 0 0 (MQ below Qc args s mc ms free) (entryFrame m args maxL)) : Met l y ws rm Pc Qc mc ms free := by
  refine MetFree.of_bodySF (code := cc) (maxLocals := maxL) (ret := ret) hy ?_ ?_
  · intro args s m h hn
    obtain ⟨meth, c, q1, q2, q3, q4, q5, q6, -, -⟩ := Cond.code_spec hn (atoms_spec (ws := ws) h _ (by rw [hw]; exact List.mem_cons_self))
    exact ⟨meth, c, q1, q2, q3, q4, q5, q6⟩
  · intro p e s m args below meth c s₁ B hml hP _
    have h0 : s₁.heap = s.heap := by rw [B.state]; rfl
    obtain ⟨t, a1, o, b1, b2, b3⟩ := body p e s m args below meth c s₁ B hml hP s₁ h0 (Stand.of_body B)
    exact ⟨t, o, a1, b1, b2, ⟨b3.1, b3.2⟩⟩
theorem Ct.ofF {l : Launch} {y : MethodName} {cc : ByteArray} {nL : Nat} {ret : Option FieldType} {E : EE} {f L : Nat} {av : List Value} {γ : GG} {post : Option Value → GG → Prop} {mc ms : Nat} (hE : EOk E) (hy : plainFor y = true) (hlen : (lg_sl av).length ≤ nL)
    (body : ∀ Φ : PH, Φ.l = l → Φ.E = E → Fx Φ cc y.cls nL ret post mc ms → f ≤ Φ.R.frames → L ≤ Φ.R.locals → Wg Φ nL γ 0 0 0 (lv_args 0 av) []) : Ct l y cc nL ret E f L av γ post mc ms := by
  refine Met.ofF (cc := cc) (maxL := nL) (ret := ret) hy rfl ?_
  intro p e s m args below meth c s₁ B hml hv
  obtain ⟨rfl, hW, hK⟩ := hv
  have hts := atoms_spec (ws := ws_ y cc nL ret) B.pre
  have hts : ∀ w ∈ lw_all, w.before _ s = true := fun w h => hts w (List.mem_cons_of_mem _ h)
  have hown : s.vm.findClass y.cls = some m.cls := findClass_of_methodNamed B.named
  have hl := lv_entry av (n := nL) hlen
  rw [lg_entry_eq]
  exact body (p, l, e, _, s, m, av.toArray, below, meth, c, _, E) rfl rfl ⟨B.exec, B.bytes, hml, hown, hts, B.returns, B.notSynchronized, hE, hK, hW.2.2.1, fun _ h => h, rfl, rfl⟩ (Nat.le_refl _) (Nat.le_refl _) _ _ _ hW va_S.rf hl
