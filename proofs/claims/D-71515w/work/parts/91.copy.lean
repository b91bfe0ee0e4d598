/-! rows: a row copied onto another one -/
def gcp (γ : GG) (o f o2 f2 : Nat) : Nat → GG
  | 0 => γ
  | n + 1 => gu (gcp γ o f o2 f2 n) o f n (γ o2 f2 n)
theorem gcp_at (γ : GG) (o f o2 f2 : Nat) : ∀ (n a b c : Nat), gcp γ o f o2 f2 n a b c = if a = o ∧ b = f ∧ c < n then γ o2 f2 c else γ a b c
  | 0, a, b, c => by simp [gcp]
  | n + 1, a, b, c => by
    show gu (gcp γ o f o2 f2 n) o f n (γ o2 f2 n) a b c = _
    by_cases h : a = o ∧ b = f ∧ c = n
    · obtain ⟨h1, h2, h3⟩ := h
      subst h1; subst h2; subst h3
      rw [gu_s, if_pos ⟨rfl, rfl, by omega⟩]
    · rw [gu_n h, gcp_at γ o f o2 f2 n a b c]
      by_cases h2 : a = o ∧ b = f ∧ c < n
      · rw [if_pos h2, if_pos ⟨h2.1, h2.2.1, by omega⟩]
      · rw [if_neg h2, if_neg (fun q => h2 ⟨q.1, q.2.1, Nat.lt_of_le_of_ne (Nat.le_of_lt_succ q.2.2) (fun e => h ⟨q.1, q.2.1, e⟩)⟩)]
theorem gcp_cell {E : EE} {t key o f N : Nat} (A : ArrK E t key o f N) (γ : GG) (o2 f2 : Nat) : ∀ n q, q ≠ key → cellOf E (gcp γ o f o2 f2 n) q = cellOf E γ q
  | 0, _, _ => rfl
  | n + 1, q, hq => by
    show cellOf E (gu (gcp γ o f o2 f2 n) o f n (γ o2 f2 n)) q = _
    rw [A.2 _ _ _ q hq, gcp_cell A γ o2 f2 n q hq]
theorem gcp_rg {γ : GG} (h : RgOk γ) {o f o2 f2 : Nat} (hb : isB o f = true → isB o2 f2 = true) (hp : isP o f = false) : ∀ n, RgOk (gcp γ o f o2 f2 n)
  | 0 => h
  | n + 1 => (gcp_rg h hb hp n).up (h o2 f2 n).1 (fun q => (h o2 f2 n).2.1 (hb q)) (fun q => by rw [hp] at q; cases q)
section CPY
variable {Φ : PH} {cc : ByteArray} {own : String} {nL : Nat} {ret : Option FieldType} {post : Option Value → GG → Prop} {mc ms : Nat} {γ : GG} {k n pc : Nat} {lv lv' : List (Nat × Value)} {st : List Value}
theorem w_copyB (F : Fx Φ cc own nL ret post mc ms) {key key2 o f o2 f2 : Nat} (A : ArrK Φ.E 0 key o f 12) (A2 : ArrK Φ.E 0 key2 o2 f2 12) (hkey : key < Φ.E.nk) (hkey2 : key2 < Φ.E.nk) (hb : isB o2 f2 = true) (hp : isP o f = false) {index : Nat} (hl : Cond.methodLink own index arraycopyName ∈ lw_all) (hcat : (st.map fun v => v.category).sum ≤ 8) (hR : 1 ≤ Φ.R.frames ∧ 12000 ≤ Φ.R.locals) (hdg : decode cc pc = .ok (.invokestatic index, 3)) (h : Wg Φ nL (gcp γ o f o2 f2 12) k n (pc + 3) lv st) : Wg Φ nL γ k n pc lv (.int (iI 12) :: .int (iI 0) :: .ref (Φ.E.ad key) :: .int (iI 0) :: .ref (Φ.E.ad key2) :: st) := by
  intro H locs ls hW hS hlv
  have he := wsOf_at (E := Φ.E) (γ := γ) hkey
  rw [A.1 γ] at he
  have he2 := wsOf_at (E := Φ.E) (γ := γ) hkey2
  rw [A2.1 γ] at he2
  refine va_copyi F.x F.b (F.ml.trans hlv.1.symm) F.ow (F.ts _ hl) (F.ts _ q538) (F.ts _ q537) (F.ts _ q87) F.K hW.1 (F.D γ) hS key2 key 0 0 he2 he rfl rfl rfl (by decide) (by decide) (by decide) (by decide) (by decide) (fun i hi => ?_) hR.1 ?_ hdg (fun H1 locs1 hP1 _ hS1 => ?_)
  · have hq := (hW.2.1 o2 f2 ((iI 0).toNatClampNeg + i)).2.1 hb
    have hq2 := (hW.2.1 o2 f2 ((iI 0).toNatClampNeg + i)).1
    show (decide ((-128 : Int32) ≤ iI (γ o2 f2 ((iI 0).toNatClampNeg + i))) && decide (iI (γ o2 f2 ((iI 0).toNatClampNeg + i)) ≤ 127)) = true
    rw [Bool.and_eq_true, decide_eq_true_eq, decide_eq_true_eq, Int32.le_iff_toInt_le, Int32.le_iff_toInt_le, iI_toInt hq2]
    exact hq
  · have : nativeFrameWords "java/lang/System" "arraycopy" 5 ≤ 1000 := by decide +kernel
    omega
  · have e1 : cellOf Φ.E (gcp γ o f o2 f2 12) key = .inl (Φ.E.cA 0, 12, .inl (va_cpy (fun j => iI (γ o2 f2 j)) (fun j => iI (γ o f j)) (iI 0).toNatClampNeg (iI 0).toNatClampNeg (iI 12).toNatClampNeg)) := by
      rw [A.1]
      have e2 : (fun j => iI (gcp γ o f o2 f2 12 o f j)) = va_cpy (fun j => iI (γ o2 f2 j)) (fun j => iI (γ o f j)) (iI 0).toNatClampNeg (iI 0).toNatClampNeg (iI 12).toNatClampNeg := by
        funext j
        have c0 : (iI 0).toNatClampNeg = 0 := by decide +kernel
        have c12 : (iI 12).toNatClampNeg = 12 := by decide +kernel
        rw [c0, c12, gcp_at]
        unfold va_cpy
        by_cases hj : j < 12
        · rw [if_pos ⟨rfl, rfl, hj⟩, if_pos ⟨by omega, by omega⟩]
          simp
        · rw [if_neg (fun q => hj q.2.2), if_neg (by omega)]
      rw [← e2]
    rw [wsOf_set (γ' := gcp γ o f o2 f2 12) e1 (fun q hq => gcp_cell A γ o2 f2 12 q hq)] at hP1
    exact h H1 locs1 ls (hW.next hS hS1 F.bs hP1 (gcp_rg hW.2.1 (fun _ => hb) hp 12)) hS1 hlv
end CPY
