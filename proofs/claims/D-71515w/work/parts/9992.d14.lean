/-! DeadlineTree: noteUndo, add, cut, delay, level -/
/-- the ring's first n places take what stands behind them -/
def gsh (γ : GG) : Nat → GG
  | 0 => γ
  | n + 1 => gu (gsh γ n) 1 6 n (γ 1 6 (n + 1))
theorem gsh_at (γ : GG) : ∀ (n a b c : Nat), gsh γ n a b c = if a = 1 ∧ b = 6 ∧ c < n then γ 1 6 (c + 1) else γ a b c
  | 0, a, b, c => by simp [gsh]
  | n + 1, a, b, c => by
    show gu (gsh γ n) 1 6 n (γ 1 6 (n + 1)) a b c = _
    by_cases h : a = 1 ∧ b = 6 ∧ c = n
    · obtain ⟨h1, h2, h3⟩ := h
      subst h1; subst h2; subst h3
      rw [gu_s, if_pos ⟨rfl, rfl, by omega⟩]
    · rw [gu_n h, gsh_at γ n a b c]
      by_cases h2 : a = 1 ∧ b = 6 ∧ c < n
      · rw [if_pos h2, if_pos ⟨h2.1, h2.2.1, by omega⟩]
      · rw [if_neg h2, if_neg (fun q => h2 ⟨q.1, q.2.1, Nat.lt_of_le_of_ne (Nat.le_of_lt_succ q.2.2) (fun e => h ⟨q.1, q.2.1, e⟩)⟩)]
theorem cell_u6 {E : EE} {γ : GG} {i q : Nat} {x : Int} (hq : q ≠ 3) : cellOf E (gu γ 1 6 i x) q = cellOf E γ q := dt_oth hq (fun _ g hg e => by rw [e] at hg; revert hg; decide) (fun h => absurd rfl h) (by decide) (by decide) (by decide)
theorem gsh_cell {E : EE} (γ : GG) {q : Nat} (hq : q ≠ 3) : ∀ n, cellOf E (gsh γ n) q = cellOf E γ q
  | 0 => rfl
  | n + 1 => by
    show cellOf E (gu (gsh γ n) 1 6 n (γ 1 6 (n + 1))) q = _
    rw [cell_u6 hq, gsh_cell γ hq n]
theorem gsh_rg {γ : GG} (h : RgOk γ) : ∀ n, RgOk (gsh γ n)
  | 0 => h
  | n + 1 => (gsh_rg h n).up (h 1 6 (n + 1)).1 (fun q => by cases q) (fun q => by cases q)
theorem gsh_o {γ : GG} {n o : Nat} (ho : o ≠ 1) : gsh γ n o = γ o := by
  funext b c
  rw [gsh_at, if_neg (fun q => ho q.1)]
theorem gsh_f {γ : GG} {n f : Nat} (hf : f ≠ 6) : gsh γ n 1 f = γ 1 f := by
  funext c
  rw [gsh_at, if_neg (fun q => hf q.2.1)]
section UR
variable {Φ : PH} {cc : ByteArray} {own : String} {nL : Nat} {ret : Option FieldType} {post : Option Value → GG → Prop} {mc ms : Nat} {γ : GG} {k n pc : Nat} {lv lv' : List (Nat × Value)} {st : List Value}
theorem w_copyU (F : Fx Φ cc own nL ret post mc ms) (hkey : 414 ≤ Φ.E.nk) (hU : ∀ i, i < 8 → 5 ≤ γ 1 6 i ∧ γ 1 6 i < 13) {index : Nat} (hl : Cond.methodLink own index arraycopyName ∈ lw_all) (hcat : (st.map fun v => v.category).sum ≤ 8) (hR : 1 ≤ Φ.R.frames ∧ 12000 ≤ Φ.R.locals) (hdg : decode cc pc = .ok (.invokestatic index, 3)) (h : Wg Φ nL (gsh γ 7) k n (pc + 3) lv st) : Wg Φ nL γ k n pc lv (.int (iI 7) :: .int (iI 0) :: .ref (Φ.E.ad 3) :: .int (iI 1) :: .ref (Φ.E.ad 3) :: st) := by
  intro H locs ls hW hS hlv
  have he : (wsOf Φ.E γ)[3]? = some (Φ.E.ad 3, .inl (Φ.E.cA 3, 8, refs (fun j => some (Φ.E.ad (11 + 31 * (γ 1 6 j).toNat))))) := wsOf_at (E := Φ.E) (γ := γ) (by omega)
  have c0 : (iI 0).toNatClampNeg = 0 := by decide +kernel
  have c1 : (iI 1).toNatClampNeg = 1 := by decide +kernel
  have c7 : (iI 7).toNatClampNeg = 7 := by decide +kernel
  refine va_copyq F.x F.b (F.ml.trans hlv.1.symm) F.ow (F.ts _ hl) (F.ts _ q538) (F.ts _ q537) (F.ts _ q87) F.K hW.1 (F.D γ) hS 3 3 3 3 (C := RX1) he he rfl rfl (by decide) (by decide) (by decide) (by decide) (by decide) (fun i hi y hy => ?_) (fun comp cc0 e1 e2 => ?_) hR.1 ?_ hdg (fun H1 locs1 hP1 _ hS1 => ?_)
  · rw [c7] at hi
    rw [c1] at hy
    have hu := hU (1 + i) (by omega)
    have hy : Φ.E.ad (11 + 31 * (γ 1 6 (1 + i)).toNat) = y := Option.some.inj hy
    rw [← hy]
    exact recvOf F hW (by omega) (cell_stO (by omega)) (q := (RX1, TX1, 13)) rfl
  · have hcls := (F.K.1 1 (RX1, TX1, 13) rfl).2
    have a1 : Φ.E.D.1 1 = comp := Option.some.inj (hcls.1.symm.trans e1)
    have a2 : Φ.E.D.1 1 = cc0 := Option.some.inj (hcls.1.symm.trans e2)
    rw [← a1, ← a2]
    exact va_assign hcls
  · have : nativeFrameWords "java/lang/System" "arraycopy" 5 ≤ 1000 := by decide +kernel
    omega
  · have e1 : cellOf Φ.E (gsh γ 7) 3 = .inl (Φ.E.cA 3, 8, .inr (.inr (.inr (.inr (va_cpy (fun j => some (Φ.E.ad (11 + 31 * (γ 1 6 j).toNat))) (fun j => some (Φ.E.ad (11 + 31 * (γ 1 6 j).toNat))) (iI 1).toNatClampNeg (iI 0).toNatClampNeg (iI 7).toNatClampNeg))))) := by
      have e2 : (fun j => some (Φ.E.ad (11 + 31 * (gsh γ 7 1 6 j).toNat))) = va_cpy (fun j => some (Φ.E.ad (11 + 31 * (γ 1 6 j).toNat))) (fun j => some (Φ.E.ad (11 + 31 * (γ 1 6 j).toNat))) (iI 1).toNatClampNeg (iI 0).toNatClampNeg (iI 7).toNatClampNeg := by
        funext j
        rw [c0, c1, c7, gsh_at]
        unfold va_cpy
        by_cases hj : j < 7
        · rw [if_pos ⟨rfl, rfl, hj⟩, if_pos ⟨by omega, by omega⟩, show 1 + (j - 0) = j + 1 by omega]
        · rw [if_neg (fun q => hj q.2.2), if_neg (by omega)]
      rw [← e2]
      rfl
    rw [wsOf_set (γ' := gsh γ 7) e1 (fun q hq => gsh_cell γ hq 7)] at hP1
    exact h H1 locs1 ls (hW.next hS hS1 F.bs hP1 (gsh_rg hW.2.1 7)) hS1 hlv
theorem w_undoSet (F : Fx Φ cc own nL ret post mc ms) (hkey : 414 ≤ Φ.E.nk) {i k2 : Nat} (hi : i < 8) (hk2 : k2 < 13) {z : Int} (hz : z = (k2 : Int)) (hdg : decode cc pc = .ok (.aastore, 1)) (h : Wg Φ nL (gu γ 1 6 i z) k n (pc + 1) lv st) : Wg Φ nL γ k n pc lv (.ref (Φ.E.ad (11 + 31 * k2)) :: .int (iI (i : Int)) :: .ref (Φ.E.ad 3) :: st) := by
  intro H locs ls hW hS hlv
  have he : (wsOf Φ.E γ)[3]? = some (Φ.E.ad 3, .inl (Φ.E.cA 3, 8, refs (fun j => some (Φ.E.ad (11 + 31 * (γ 1 6 j).toNat))))) := wsOf_at (E := Φ.E) (γ := γ) (by omega)
  have hv := wsOf_at (E := Φ.E) (γ := γ) (key := 11 + 31 * k2) (by omega)
  rw [cell_stO hk2] at hv
  refine va_astq F.x F.b F.K hW.1 (F.D γ) hS 3 3 (11 + 31 * k2) 1 (r := (RX1, TX1, 13)) he rfl hv rfl (iI_in (by omega) (by omega) (by decide)) hdg (fun H1 locs1 hP1 _ hS1 => ?_)
  have e1 : cellOf Φ.E (gu γ 1 6 i z) 3 = .inl (Φ.E.cA 3, 8, .inr (.inr (.inr (.inr (va_up (fun j => some (Φ.E.ad (11 + 31 * (γ 1 6 j).toNat))) (iI (i : Int)).toNatClampNeg (some (Φ.E.ad (11 + 31 * k2)))))))) := by
    have e2 : (fun j => some (Φ.E.ad (11 + 31 * (gu γ 1 6 i z 1 6 j).toNat))) = va_up (fun j => some (Φ.E.ad (11 + 31 * (γ 1 6 j).toNat))) (iI (i : Int)).toNatClampNeg (some (Φ.E.ad (11 + 31 * k2))) := by
      funext j
      rw [iI_clamp ⟨by omega, by omega⟩ (by omega), Int.toNat_natCast]
      by_cases hj : j = i
      · subst hj
        rw [va_up_self, gu_s, hz, Int.toNat_natCast]
      · rw [va_up_ne _ _ hj, gu_n (by omega)]
    rw [← e2]
    rfl
  rw [wsOf_set (γ' := gu γ 1 6 i z) e1 (fun q hq => cell_u6 hq)] at hP1
  exact h H1 locs1 ls (hW.next hS hS1 F.bs hP1 (hW.2.1.up ⟨by omega, by omega⟩ (fun q => by cases q) (fun q => by cases q))) hS1 hlv
end UR
section D14
variable {l : Launch} {E : EE}
theorem ct_noteUndo (hE : EOk E) (γ : GG) {v : VV} {vu vk : List VV} (hF : DF γ v vu vk) : Ct l yX0_noteUndo cX0_noteUndo 2 none E 300 24000 [.ref (E.ad 0)] γ (fun r g => r = none ∧ g 0 = γ 0 ∧ (∀ f, f ≠ 6 → f ≠ 7 → g 1 f = γ 1 f) ∧ DF g v (undN vu v) vk) 0 0 := by
  refine Ct.of hE (by decide) (Nat.le_of_ble_eq_true rfl) (fun Φ hLn hΦ F hfr hlo => ?_)
  subst hLn; subst hΦ
  have h414 := F.ok.1.2.2
  have hrc := F.rc
  have hrs := F.rs
  show Wg Φ 2 _ 0 0 0 [(0, _)] []
  refine w_rng (fun hR => ?_)
  obtain ⟨h1, h2, h3, h4, h5, h6, h7, h8, h9, h10⟩ := id hF
  have tail : ∀ (g : GG) (wu : List VV), DF g v wu vk → wu.length < 8 → g 0 = γ 0 → (∀ f, f ≠ 6 → f ≠ 7 → g 1 f = γ 1 f) → wu ++ [v] = undN vu v → Wg Φ 2 g 0 0 49 [(0, .ref (Φ.E.ad 0))] [] := by
    intro g wu hG hl8 a1 a2 a3
    obtain ⟨g1, g2, g3, g4, g5, g6, g7, g8, g9, g10⟩ := id hG
    have hr := g9 wu.length hl8
    obtain ⟨kk, hkk⟩ : ∃ q, q = (g 1 6 wu.length).toNat := ⟨_, rfl⟩
    have hkk2 : 5 ≤ kk ∧ kk < 13 := by omega
    refine w_aload_n F dX0_noteUndo_49 rfl rfl ?_
    refine w_get F (by omega) rfl rfl in_X0 6 (by decide) (Or.inl q546) rfl dX0_noteUndo_50 ?_
    refine w_aload_n F dX0_noteUndo_53 rfl rfl ?_
    refine w_getF F (fD7 _) (by omega) rfl in_X0 (by decide) (Or.inl q547) dX0_noteUndo_54 ?_
    refine w_top (z' := (wu.length : Int)) g3 ?_
    refine w_undosN F (by omega) (by omega) dX0_noteUndo_57 ?_
    refine w_aload_n F dX0_noteUndo_58 rfl rfl ?_
    refine w_get F (by omega) rfl rfl in_X0 2 (by decide) (Or.inl q542) rfl dX0_noteUndo_59 ?_
    rw [← hkk]
    refine w_callV F (As := [_]) (ct_copyS hE g (k := kk) (k2 := 1) (by omega) (by omega) (by omega)) (lw_V q528 q529 q530 q71 q531) md_X1_copy (by omega) (cell_stO (by omega)) rfl rfl rfl rfl (Nat.le_of_ble_eq_true rfl) dX0_noteUndo_62 ⟨by omega, by omega⟩ ⟨by omega, by omega⟩ ?_
    rintro _ b ⟨rfl, c1, o1⟩
    have e1 : b 1 = g 1 := o1 1 (by omega)
    refine w_aload_n F dX0_noteUndo_65 rfl rfl ?_
    refine w_dup F dX0_noteUndo_66 rfl ?_
    refine w_getF F (fD7 _) (by omega) rfl in_X0 (by decide) (Or.inl q547) dX0_noteUndo_67 ?_
    refine w_top (z' := (wu.length : Int)) (by rw [e1]; exact g3) ?_
    refine w_iconst F dX0_noteUndo_70 ?_
    refine w_iadd F dX0_noteUndo_71 ?_
    refine w_putF F (fD7 _) (by omega) rfl in_X0 tyX0 tyX0_ok nmX0 (by decide) (Or.inl q547) rfl rfl rfl (by first | assumption | exact inR0 | exact (hR _ _ _).1 | (constructor <;> omega)) (fun h => by cases h) (fun h => by cases h) dX0_noteUndo_72 ?_
    have eo : ∀ o, o ≠ 1 → o ≠ 2 + kk → gu b 1 7 0 ((wu.length : Int) + 1) o = g o := fun o q1 q2 => by rw [gu_o q1]; exact o1 o q2
    have e6 : gu b 1 7 0 ((wu.length : Int) + 1) 1 6 = g 1 6 := by rw [gu_f (by decide), e1]
    have hfin : DF (gu b 1 7 0 ((wu.length : Int) + 1)) v (wu ++ [v]) vk := by
      refine ⟨by rw [eo 3 (by decide) (by omega)]; exact g1, g2, by rw [gu_s]; simp, by simp; omega, fun i w hw => ?_, by rw [gu_f (by decide), e1]; exact g6, g7, fun i w hw => ?_, by rw [e6]; exact g9, by rw [e6]; exact g10⟩
      · rw [e6]
        by_cases e : i < wu.length
        · rw [List.getElem?_append_left e] at hw
          have hi := g9 i (by omega)
          have hne : (g 1 6 i).toNat ≠ kk := fun q => by
            have : g 1 6 i = g 1 6 wu.length := by omega
            have := g10 i wu.length (by omega) (by omega) this
            omega
          rw [eo _ (by omega) (by omega)]
          exact g5 i w hw
        · have e2 := (List.getElem?_eq_some_iff.mp hw).1
          simp at e2
          have e3 : i = wu.length := by omega
          subst e3
          simp at hw
          rw [← hw, ← hkk, gu_o (by omega)]
          exact ⟨g1.cp g2 c1, g2⟩
      · have hi := (List.getElem?_eq_some_iff.mp hw).1
        rw [eo _ (by omega) (by omega)]
        exact g8 i w hw
    exact w_vret F (by omega) (by omega) (⟨rfl, by rw [eo 0 (by decide) (by omega)]; exact a1, fun f q1 q2 => by rw [gu_f q2, e1]; exact a2 f q1 q2, by rw [← a3]; exact hfin⟩) dX0_noteUndo_75
  refine w_aload_n F dX0_noteUndo_0 rfl rfl ?_
  refine w_getF F (fD7 _) (by omega) rfl in_X0 (by decide) (Or.inl q547) dX0_noteUndo_1 ?_
  refine w_top h3 ?_
  refine w_bipush F dX0_noteUndo_4 rfl ?_
  refine w_icmp_ne F (tgt := 49) dX0_noteUndo_6 (by decide) (by first | assumption | exact inR0 | exact (hR _ _ _).1 | (constructor <;> omega)) (by first | assumption | exact inR0 | exact (hR _ _ _).1 | (constructor <;> omega)) (fun h => ?_) (fun h => ?_)
  · exact tail γ vu hF (by omega) rfl (fun _ _ _ => rfl) (by unfold undN; rw [if_neg (by omega)])
  · have hl8 : vu.length = 8 := by omega
    have h90 := h9 0 (by omega)
    obtain ⟨kk, hkk⟩ : ∃ q, q = (γ 1 6 0).toNat := ⟨_, rfl⟩
    refine w_aload_n F dX0_noteUndo_9 rfl rfl ?_
    refine w_get F (by omega) rfl rfl in_X0 6 (by decide) (Or.inl q546) rfl dX0_noteUndo_10 ?_
    refine w_iconst F dX0_noteUndo_13 ?_
    refine w_undosN F (by omega) (j := 0) (by omega) dX0_noteUndo_14 ?_
    rw [← hkk]
    refine w_astore_n F dX0_noteUndo_15 (by decide) rfl (lv' := [(0, _), (1, _)]) rfl rfl ?_
    refine w_aload_n F dX0_noteUndo_16 rfl rfl ?_
    refine w_get F (by omega) rfl rfl in_X0 6 (by decide) (Or.inl q546) rfl dX0_noteUndo_17 ?_
    refine w_iconst F dX0_noteUndo_20 ?_
    refine w_aload_n F dX0_noteUndo_21 rfl rfl ?_
    refine w_get F (by omega) rfl rfl in_X0 6 (by decide) (Or.inl q546) rfl dX0_noteUndo_22 ?_
    refine w_iconst F dX0_noteUndo_25 ?_
    refine w_bipush F dX0_noteUndo_26 rfl ?_
    refine w_copyU F (by omega) h9 q656 (Nat.le_of_ble_eq_true rfl) ⟨by omega, by omega⟩ dX0_noteUndo_28 ?_
    refine w_aload_n F dX0_noteUndo_31 rfl rfl ?_
    refine w_get F (by omega) rfl rfl in_X0 6 (by decide) (Or.inl q546) rfl dX0_noteUndo_32 ?_
    refine w_bipush F dX0_noteUndo_35 rfl ?_
    refine w_aload_n F dX0_noteUndo_37 rfl rfl ?_
    refine w_undoSet F (by omega) (i := 7) (k2 := kk) (by omega) (by omega) (z := γ 1 6 0) (by omega) dX0_noteUndo_38 ?_
    refine w_aload_n F dX0_noteUndo_39 rfl rfl ?_
    refine w_dup F dX0_noteUndo_40 rfl ?_
    refine w_getF F (fD7 _) (by omega) rfl in_X0 (by decide) (Or.inl q547) dX0_noteUndo_41 ?_
    refine w_top (z' := 8) (by rw [gu_f (by decide), gsh_f (by decide)]; omega) ?_
    refine w_iconst F dX0_noteUndo_44 ?_
    refine w_isub F dX0_noteUndo_45 ?_
    refine w_top (z' := 7) (by decide) ?_
    refine w_putF F (fD7 _) (by omega) rfl in_X0 tyX0 tyX0_ok nmX0 (by decide) (Or.inl q547) rfl rfl rfl (by first | assumption | exact inR0 | exact (hR _ _ _).1 | (constructor <;> omega)) (fun h => by cases h) (fun h => by cases h) dX0_noteUndo_46 ?_
    refine w_keep [0] (lv' := [(0, _)]) rfl ?_
    have eo : ∀ o, o ≠ 1 → gu (gu (gsh γ 7) 1 6 7 (γ 1 6 0)) 1 7 0 7 o = γ o := fun o q => by rw [gu_o q, gu_o q, gsh_o q]
    have ef : ∀ f, f ≠ 6 → f ≠ 7 → gu (gu (gsh γ 7) 1 6 7 (γ 1 6 0)) 1 7 0 7 1 f = γ 1 f := fun f q1 q2 => by rw [gu_f q2, gu_f q1, gsh_f q1]
    have e6 : ∀ j, j < 8 → gu (gu (gsh γ 7) 1 6 7 (γ 1 6 0)) 1 7 0 7 1 6 j = γ 1 6 ((j + 1) % 8) := by
      intro j hj
      rw [gu_n (by omega)]
      by_cases e : j = 7
      · subst e; rw [gu_s]
      · rw [gu_n (by omega), gsh_at, if_pos ⟨rfl, rfl, by omega⟩, Nat.mod_eq_of_lt (by omega)]
    refine tail _ (vu.drop 1) ?_ (by simp; omega) (eo 0 (by decide)) ef (by unfold undN; rw [if_pos hl8])
    refine ⟨by rw [eo 3 (by decide)]; exact h1, h2, by rw [gu_s]; simp; omega, by simp; omega, fun i w hw => ?_, by rw [ef 5 (by decide) (by decide)]; exact h6, h7, fun i w hw => by rw [eo (5 + i) (by omega)]; exact h8 i w hw, fun i hi => by rw [e6 i hi]; exact h9 _ (by omega), fun i i' hi hi' he => ?_⟩
    · have hi := (List.getElem?_eq_some_iff.mp hw).1
      simp at hi
      rw [e6 i (by omega), Nat.mod_eq_of_lt (by omega), eo _ (by omega)]
      exact h5 (i + 1) w (by rw [List.getElem?_drop] at hw; rw [Nat.add_comm]; exact hw)
    · rw [e6 i hi, e6 i' hi'] at he
      have := h10 _ _ (by omega) (by omega) he
      omega
theorem DF.act {γ g : GG} {v w : VV} {vu vk : List VV} (h : DF γ v vu vk) (o : OnlyS 1 γ g) (hv : SV (g 3) w) (hb : w.1 < 4096) : DF g w vu vk := by
  obtain ⟨h1, h2, h3, h4, h5, h6, h7, h8, h9, h10⟩ := h
  have e1 : g 1 = γ 1 := o 1 (by decide)
  refine ⟨hv, hb, by rw [e1]; exact h3, h4, fun i w hw => ?_, by rw [e1]; exact h6, h7, fun i w hw => by rw [o (5 + i) (by omega)]; exact h8 i w hw, by rw [e1]; exact h9, by rw [e1]; exact h10⟩
  have hi := (List.getElem?_eq_some_iff.mp hw).1
  have := h9 i (by omega)
  rw [e1, o _ (by omega)]
  exact h5 i w hw
theorem ct_addD (hE : EOk E) (hA : AhOk l E) (γ : GG) {v : VV} {vu vk : List VV} (hF : DF γ v vu vk) (hV : VOk v) {k s d ln : Int} (hk : InR k) (hs : InR s) (hd : InR d) (hln : InR ln) : Ct l yX0_add cX0_add 6 (some .int) E 1000 52000 [.ref (E.ad 0), .int (iI k), .int (iI s), .int (iI d), .int (iI ln)] γ (fun r g => g 0 = γ 0 ∧ (∀ f, f ≠ 6 → f ≠ 7 → g 1 f = γ 1 f) ∧ ((¬ told k s d ln ∧ r = some (.int (iI (-1))) ∧ DF g v vu vk) ∨ (told k s d ln ∧ cnt v.1 12 = 12 ∧ r = some (.int (iI (-3))) ∧ DF g v vu vk) ∨ (told k s d ln ∧ cnt v.1 12 ≠ 12 ∧ r = some (.int (iI (fj v.1 : Int))) ∧ DF g (addV v k s d ln) (undN vu v) vk))) 0 0 := by
  refine Ct.of hE (by decide) (Nat.le_of_ble_eq_true rfl) (fun Φ hLn hΦ F hfr hlo => ?_)
  subst hLn; subst hΦ
  have h414 := F.ok.1.2.2
  have hrc := F.rc
  have hrs := F.rs
  show Wg Φ 6 _ 0 0 0 [(0, _), (1, _), (2, _), (3, _), (4, _)] []
  refine w_rng (fun hR => ?_)
  have hb2 := hV.1.1
  have hb : γ 3 0 0 = (v.1 : Int) := hF.1.1
  have hcl := cnt_le v.1 12
  have bad : ¬ told k s d ln → Wg Φ 6 γ 0 0 49 [(0, .ref (Φ.E.ad 0)), (1, .int (iI k)), (2, .int (iI s)), (3, .int (iI d)), (4, .int (iI ln))] [] := by
    intro hn
    refine w_iconst F dX0_add_49 ?_
    exact w_iret F (by omega) (by omega) (⟨rfl, fun _ _ _ => rfl, Or.inl ⟨hn, rfl, hF⟩⟩) dX0_add_50
  refine w_iload_n F dX0_add_0 rfl ?_
  refine w_i2l F dX0_add_1 (by first | assumption | exact inR0 | exact (hR _ _ _).1 | (constructor <;> omega)) ?_
  refine w_lconst F dX0_add_2 ?_
  refine w_topL (z' := 0) rfl ?_
  refine w_ldc2 F q642 dX0_add_3 ?_
  refine w_topL (z' := 3) rfl ?_
  refine w_callS F (As := [_, _, _]) (ct_isIn hE γ hk inR0 (by decide)) (lw_S q279 q280 q70 q281) md_X0_isIn rfl rfl (Nat.le_of_ble_eq_true rfl) dX0_add_6 ⟨by omega, by omega⟩ ⟨by omega, by omega⟩ ?_
  rintro _ _ ⟨rfl, rfl⟩
  refine w_if_eq F (tgt := 49) dX0_add_9 (by decide) (b2i_R _) (fun t1 => ?_) (fun t1 => ?_)
  · rw [b2i_0] at t1
    exact bad (fun q => t1 q.1)
  · rw [b2i_n0] at t1
    refine w_iload_n F dX0_add_12 rfl ?_
    refine w_i2l F dX0_add_13 (by first | assumption | exact inR0 | exact (hR _ _ _).1 | (constructor <;> omega)) ?_
    refine w_lconst F dX0_add_14 ?_
    refine w_topL (z' := 0) rfl ?_
    refine w_ldc2 F q650 dX0_add_15 ?_
    refine w_topL (z' := 99) rfl ?_
    refine w_callS F (As := [_, _, _]) (ct_isIn hE γ hs inR0 (by decide)) (lw_S q279 q280 q70 q281) md_X0_isIn rfl rfl (Nat.le_of_ble_eq_true rfl) dX0_add_18 ⟨by omega, by omega⟩ ⟨by omega, by omega⟩ ?_
    rintro _ _ ⟨rfl, rfl⟩
    refine w_if_eq F (tgt := 49) dX0_add_21 (by decide) (b2i_R _) (fun t2 => ?_) (fun t2 => ?_)
    · rw [b2i_0] at t2
      exact bad (fun q => t2 q.2.1)
    · rw [b2i_n0] at t2
      refine w_iload_n F dX0_add_24 rfl ?_
      refine w_i2l F dX0_add_25 (by first | assumption | exact inR0 | exact (hR _ _ _).1 | (constructor <;> omega)) ?_
      refine w_lconst F dX0_add_26 ?_
      refine w_topL (z' := 0) rfl ?_
      refine w_ldc2 F q650 dX0_add_27 ?_
      refine w_topL (z' := 99) rfl ?_
      refine w_callS F (As := [_, _, _]) (ct_isIn hE γ hd inR0 (by decide)) (lw_S q279 q280 q70 q281) md_X0_isIn rfl rfl (Nat.le_of_ble_eq_true rfl) dX0_add_30 ⟨by omega, by omega⟩ ⟨by omega, by omega⟩ ?_
      rintro _ _ ⟨rfl, rfl⟩
      refine w_if_eq F (tgt := 49) dX0_add_33 (by decide) (b2i_R _) (fun t3 => ?_) (fun t3 => ?_)
      · rw [b2i_0] at t3
        exact bad (fun q => t3 q.2.2.1)
      · rw [b2i_n0] at t3
        refine w_iload F dX0_add_36 rfl ?_
        refine w_i2l F dX0_add_38 (by first | assumption | exact inR0 | exact (hR _ _ _).1 | (constructor <;> omega)) ?_
        refine w_lconst F dX0_add_39 ?_
        refine w_topL (z' := 1) rfl ?_
        refine w_ldc2 F q651 dX0_add_40 ?_
        refine w_topL (z' := 9) rfl ?_
        refine w_callS F (As := [_, _, _]) (ct_isIn hE γ hln (by decide) (by decide)) (lw_S q279 q280 q70 q281) md_X0_isIn rfl rfl (Nat.le_of_ble_eq_true rfl) dX0_add_43 ⟨by omega, by omega⟩ ⟨by omega, by omega⟩ ?_
        rintro _ _ ⟨rfl, rfl⟩
        refine w_if_ne F (tgt := 51) dX0_add_46 (by decide) (b2i_R _) (fun t4 => ?_) (fun t4 => ?_)
        · rw [b2i_n0] at t4
          have ht : told k s d ln := ⟨t1, t2, t3, t4⟩
          refine w_aload_n F dX0_add_51 rfl rfl ?_
          refine w_get F (by omega) rfl rfl in_X0 2 (by decide) (Or.inl q542) rfl dX0_add_52 ?_
          refine w_callV F (As := []) (ct_manyS hE γ (k := 1) (by omega) hb hb2) (lw_V q396 q397 q398 q71 q399) md_X1_many (by omega) (cell_stO (by omega)) rfl rfl rfl rfl (Nat.le_of_ble_eq_true rfl) dX0_add_55 ⟨by omega, by omega⟩ ⟨by omega, by omega⟩ ?_
          rintro _ _ ⟨rfl, rfl⟩
          refine w_bipush F dX0_add_58 rfl ?_
          refine w_icmp_ne F (tgt := 66) dX0_add_60 (by decide) (by first | assumption | exact inR0 | exact (hR _ _ _).1 | (constructor <;> omega)) (by first | assumption | exact inR0 | exact (hR _ _ _).1 | (constructor <;> omega)) (fun h => ?_) (fun h => ?_)
          · have hc : cnt v.1 12 ≠ 12 := by omega
            refine w_aload_n F dX0_add_66 rfl rfl ?_
            refine w_callV F (As := []) (ct_noteUndo hE γ hF) (lw_V q652 q654 qs19 q70 q655) md_X0_noteUndo (by omega) rfl rfl rfl rfl rfl (Nat.le_of_ble_eq_true rfl) dX0_add_67 ⟨by omega, by omega⟩ ⟨by omega, by omega⟩ ?_
            rintro _ g ⟨rfl, a1, a2, hG⟩
            have hgb : g 3 0 0 = (v.1 : Int) := hG.1.1
            refine w_aload_n F dX0_add_70 rfl rfl ?_
            refine w_get F (by omega) rfl rfl in_X0 2 (by decide) (Or.inl q542) rfl dX0_add_71 ?_
            refine w_callV F (As := []) (ct_freeS hE g (k := 1) (by omega) hgb hb2 hc) (lw_V q657 q411 q412 q71 q413) md_X1_free (by omega) (cell_stO (by omega)) rfl rfl rfl rfl (Nat.le_of_ble_eq_true rfl) dX0_add_74 ⟨by omega, by omega⟩ ⟨by omega, by omega⟩ ?_
            rintro _ _ ⟨rfl, rfl⟩
            refine w_istore F dX0_add_77 (by decide) rfl (lv' := [(0, _), (1, _), (2, _), (3, _), (4, _), (5, _)]) rfl ?_
            refine w_aload_n F dX0_add_79 rfl rfl ?_
            refine w_get F (by omega) rfl rfl in_X0 2 (by decide) (Or.inl q542) rfl dX0_add_80 ?_
            refine w_iload_n F dX0_add_83 rfl ?_
            refine w_iload_n F dX0_add_84 rfl ?_
            refine w_iload_n F dX0_add_85 rfl ?_
            refine w_iload F dX0_add_86 rfl ?_
            refine w_callV F (As := [_, _, _, _]) (ct_addS hE hA g (k := 1) (by omega) hG.1 hV ht hc) (lw_V q406 q407 q408 q71 q409) md_X1_add (by omega) (cell_stO (by omega)) rfl rfl rfl rfl (Nat.le_of_ble_eq_true rfl) dX0_add_88 ⟨by omega, by omega⟩ ⟨by omega, by omega⟩ ?_
            rintro _ g2 ⟨rfl, s1, o1⟩
            have hb3 : (addV v k s d ln).1 < 4096 := (hV.add ht hc).1.1
            refine w_pop F dX0_add_91 rfl ?_
            refine w_iload F dX0_add_92 rfl ?_
            exact w_iret F (by omega) (by omega) (⟨by rw [o1 0 (by decide)]; exact a1, fun f q1 q2 => by rw [o1 1 (by decide)]; exact a2 f q1 q2, Or.inr (Or.inr ⟨ht, hc, rfl, hG.act o1 s1 hb3⟩)⟩) dX0_add_94
          · refine w_bipush F dX0_add_63 rfl ?_
            exact w_iret F (by omega) (by omega) (⟨rfl, fun _ _ _ => rfl, Or.inr (Or.inl ⟨ht, by omega, rfl, hF⟩)⟩) dX0_add_65
        · rw [b2i_0] at t4
          exact bad (fun q => t4 q.2.2.2)
theorem ct_cutD (hE : EOk E) (hA : AhOk l E) (hH : HoOk l E) (γ : GG) {v : VV} {vu vk : List VV} (hF : DF γ v vu vk) (hV : VOk v) {j : Int} (hj : InR j) : Ct l yX0_cut cX0_cut 2 (some .int) E 1000 52000 [.ref (E.ad 0), .int (iI j)] γ (fun r g => g 0 = γ 0 ∧ (∀ f, f ≠ 6 → f ≠ 7 → g 1 f = γ 1 f) ∧ ((¬ isJobP v.1 j ∧ r = some (.int (iI (-1))) ∧ DF g v vu vk) ∨ (isJobP v.1 j ∧ cnt v.1 12 = 1 ∧ r = some (.int (iI (-2))) ∧ DF g v vu vk) ∨ (isJobP v.1 j ∧ cnt v.1 12 ≠ 1 ∧ r = some (.int (iI (cnt (cutV v j.toNat).1 12 : Int))) ∧ DF g (cutV v j.toNat) (undN vu v) vk))) 2 32 := by
  refine Ct.of hE (by decide) (Nat.le_of_ble_eq_true rfl) (fun Φ hLn hΦ F hfr hlo => ?_)
  subst hLn; subst hΦ
  have h414 := F.ok.1.2.2
  have hrc := F.rc
  have hrs := F.rs
  show Wg Φ 2 _ 0 0 0 [(0, _), (1, _)] []
  refine w_rng (fun hR => ?_)
  have hb2 := hV.1.1
  have hb : γ 3 0 0 = (v.1 : Int) := hF.1.1
  have hcl := cnt_le v.1 12
  refine w_aload_n F dX0_cut_0 rfl rfl ?_
  refine w_iload_n F dX0_cut_1 rfl ?_
  refine w_callV F (As := [_]) (ct_isJobD hE γ hb hb2 hj) (lw_V q600 q602 qs18 q70 q603) md_X0_isJob (by omega) rfl rfl rfl rfl rfl (Nat.le_of_ble_eq_true rfl) dX0_cut_2 ⟨by omega, by omega⟩ ⟨by omega, by omega⟩ ?_
  rintro _ _ ⟨rfl, rfl⟩
  refine w_if_ne F (tgt := 10) dX0_cut_5 (by decide) (b2i_R _) (fun h => ?_) (fun h => ?_)
  · rw [b2i_n0] at h
    have hjp : isJobP v.1 j := h
    obtain ⟨i, rfl⟩ : ∃ i : Nat, j = (i : Int) := ⟨j.toNat, by omega⟩
    have hi : v.1.testBit i = true := by simpa using h.2.2
    refine w_aload_n F dX0_cut_10 rfl rfl ?_
    refine w_get F (by omega) rfl rfl in_X0 2 (by decide) (Or.inl q542) rfl dX0_cut_11 ?_
    refine w_callV F (As := []) (ct_manyS hE γ (k := 1) (by omega) hb hb2) (lw_V q396 q397 q398 q71 q399) md_X1_many (by omega) (cell_stO (by omega)) rfl rfl rfl rfl (Nat.le_of_ble_eq_true rfl) dX0_cut_14 ⟨by omega, by omega⟩ ⟨by omega, by omega⟩ ?_
    rintro _ _ ⟨rfl, rfl⟩
    refine w_iconst F dX0_cut_17 ?_
    refine w_icmp_ne F (tgt := 24) dX0_cut_18 (by decide) (by first | assumption | exact inR0 | exact (hR _ _ _).1 | (constructor <;> omega)) (by first | assumption | exact inR0 | exact (hR _ _ _).1 | (constructor <;> omega)) (fun h1 => ?_) (fun h1 => ?_)
    · have hc : cnt v.1 12 ≠ 1 := by omega
      refine w_aload_n F dX0_cut_24 rfl rfl ?_
      refine w_callV F (As := []) (ct_noteUndo hE γ hF) (lw_V q652 q654 qs19 q70 q655) md_X0_noteUndo (by omega) rfl rfl rfl rfl rfl (Nat.le_of_ble_eq_true rfl) dX0_cut_25 ⟨by omega, by omega⟩ ⟨by omega, by omega⟩ ?_
      rintro _ g ⟨rfl, a1, a2, hG⟩
      refine w_aload_n F dX0_cut_28 rfl rfl ?_
      refine w_get F (by omega) rfl rfl in_X0 2 (by decide) (Or.inl q542) rfl dX0_cut_29 ?_
      refine w_iload_n F dX0_cut_32 rfl ?_
      refine w_callV F (As := [_]) (ct_cutS hE hA hH g (k := 1) (by omega) hG.1 hV hi (hV.two hc)) (lw_V q662 q663 q664 q71 q665) md_X1_cut (by omega) (cell_stO (by omega)) rfl rfl rfl rfl (Nat.le_of_ble_eq_true rfl) dX0_cut_33 ⟨by omega, by omega⟩ ⟨by omega, by omega⟩ ?_
      rintro _ g2 ⟨rfl, s1, o1⟩
      have hb3 : (cutV v i).1 < 4096 := (hV.cut hi (hV.two hc)).1.1
      refine w_pop F dX0_cut_36 rfl ?_
      refine w_aload_n F dX0_cut_37 rfl rfl ?_
      refine w_get F (by omega) rfl rfl in_X0 2 (by decide) (Or.inl q542) rfl dX0_cut_38 ?_
      refine w_callV F (As := []) (ct_manyS hE g2 (k := 1) (by omega) s1.1 hb3) (lw_V q396 q397 q398 q71 q399) md_X1_many (by omega) (cell_stO (by omega)) rfl rfl rfl rfl (Nat.le_of_ble_eq_true rfl) dX0_cut_41 ⟨by omega, by omega⟩ ⟨by omega, by omega⟩ ?_
      rintro _ _ ⟨rfl, rfl⟩
      exact w_iret F (by omega) (by omega) (⟨by rw [o1 0 (by decide)]; exact a1, fun f q1 q2 => by rw [o1 1 (by decide)]; exact a2 f q1 q2, Or.inr (Or.inr ⟨hjp, hc, by rw [Int.toNat_natCast], by rw [Int.toNat_natCast]; exact hG.act o1 s1 hb3⟩)⟩) dX0_cut_44
    · refine w_bipush F dX0_cut_21 rfl ?_
      exact w_iret F (by omega) (by omega) (⟨rfl, fun _ _ _ => rfl, Or.inr (Or.inl ⟨hjp, by omega, rfl, hF⟩)⟩) dX0_cut_23
  · rw [b2i_0] at h
    refine w_iconst F dX0_cut_8 ?_
    exact w_iret F (by omega) (by omega) (⟨rfl, fun _ _ _ => rfl, Or.inl ⟨h, rfl, hF⟩⟩) dX0_cut_9
theorem ct_delayD (hE : EOk E) (hA : AhOk l E) (hH : HoOk l E) (γ : GG) {v : VV} {vu vk : List VV} (hF : DF γ v vu vk) (hV : VOk v) {j d : Int} (hj : InR j) (hd : InR d) : Ct l yX0_delay cX0_delay 4 (some .int) E 1000 52000 [.ref (E.ad 0), .int (iI j), .int (iI d)] γ (fun r g => g 0 = γ 0 ∧ (∀ f, f ≠ 6 → f ≠ 7 → g 1 f = γ 1 f) ∧ ((¬ (isJobP v.1 j ∧ (0 ≤ d ∧ d ≤ 99)) ∧ r = some (.int (iI (-1))) ∧ DF g v vu vk) ∨ ((isJobP v.1 j ∧ (0 ≤ d ∧ d ≤ 99)) ∧ v.2.1 3 j.toNat = d ∧ r = some (.int (iI (-2))) ∧ DF g v vu vk) ∨ ((isJobP v.1 j ∧ (0 ≤ d ∧ d ≤ 99)) ∧ v.2.1 3 j.toNat ≠ d ∧ r = some (.int (iI (v.2.1 3 j.toNat))) ∧ DF g (v.1, upD v.2.1 j.toNat d, v.2.2) (undN vu v) vk))) 2 32 := by
  refine Ct.of hE (by decide) (Nat.le_of_ble_eq_true rfl) (fun Φ hLn hΦ F hfr hlo => ?_)
  subst hLn; subst hΦ
  have h414 := F.ok.1.2.2
  have hrc := F.rc
  have hrs := F.rs
  show Wg Φ 4 _ 0 0 0 [(0, _), (1, _), (2, _)] []
  refine w_rng (fun hR => ?_)
  have hb2 := hV.1.1
  have hb : γ 3 0 0 = (v.1 : Int) := hF.1.1
  have bad : ¬ (isJobP v.1 j ∧ (0 ≤ d ∧ d ≤ 99)) → Wg Φ 4 γ 0 0 20 [(0, .ref (Φ.E.ad 0)), (1, .int (iI j)), (2, .int (iI d))] [] := by
    intro hn
    refine w_iconst F dX0_delay_20 ?_
    exact w_iret F (by omega) (by omega) (⟨rfl, fun _ _ _ => rfl, Or.inl ⟨hn, rfl, hF⟩⟩) dX0_delay_21
  refine w_aload_n F dX0_delay_0 rfl rfl ?_
  refine w_iload_n F dX0_delay_1 rfl ?_
  refine w_callV F (As := [_]) (ct_isJobD hE γ hb hb2 hj) (lw_V q600 q602 qs18 q70 q603) md_X0_isJob (by omega) rfl rfl rfl rfl rfl (Nat.le_of_ble_eq_true rfl) dX0_delay_2 ⟨by omega, by omega⟩ ⟨by omega, by omega⟩ ?_
  rintro _ _ ⟨rfl, rfl⟩
  refine w_if_eq F (tgt := 20) dX0_delay_5 (by decide) (b2i_R _) (fun h => ?_) (fun h => ?_)
  · rw [b2i_0] at h
    exact bad (fun q => h q.1)
  · rw [b2i_n0] at h
    have hjp : isJobP v.1 j := h
    refine w_iload_n F dX0_delay_8 rfl ?_
    refine w_i2l F dX0_delay_9 (by first | assumption | exact inR0 | exact (hR _ _ _).1 | (constructor <;> omega)) ?_
    refine w_lconst F dX0_delay_10 ?_
    refine w_topL (z' := 0) rfl ?_
    refine w_ldc2 F q650 dX0_delay_11 ?_
    refine w_topL (z' := 99) rfl ?_
    refine w_callS F (As := [_, _, _]) (ct_isIn hE γ hd inR0 (by decide)) (lw_S q279 q280 q70 q281) md_X0_isIn rfl rfl (Nat.le_of_ble_eq_true rfl) dX0_delay_14 ⟨by omega, by omega⟩ ⟨by omega, by omega⟩ ?_
    rintro _ _ ⟨rfl, rfl⟩
    refine w_if_ne F (tgt := 22) dX0_delay_17 (by decide) (b2i_R _) (fun h2 => ?_) (fun h2 => ?_)
    · rw [b2i_n0] at h2
      obtain ⟨i, rfl⟩ : ∃ i : Nat, j = (i : Int) := ⟨j.toNat, by omega⟩
      have hi : v.1.testBit i = true := by simpa using h.2.2
      have hJ := hF.1.jc hV hi
      have r3 := hJ.2.2.2.2.1
      refine w_aload_n F dX0_delay_22 rfl rfl ?_
      refine w_get F (by omega) rfl rfl in_X0 2 (by decide) (Or.inl q542) rfl dX0_delay_23 ?_
      refine w_get F (by omega) (cell_stO (by omega)) rfl in_X1 6 (by decide) (Or.inr q159) rfl dX0_delay_26 ?_
      refine w_iload_n F dX0_delay_29 rfl ?_
      first | refine w_baldN F (aS6 _ (by omega)) (by omega) (by decide) (by omega) dX0_delay_30 ?_ | refine w_bald F (aS6 _ (by omega)) (by omega) (by decide) (by omega) (by omega) dX0_delay_30 ?_
      refine w_top (z' := v.2.1 3 i) hJ.2.1.2.2.1 ?_
      refine w_istore_n F dX0_delay_31 (by decide) rfl (lv' := [(0, _), (1, _), (2, _), (3, _)]) rfl ?_
      refine w_iload_n F dX0_delay_32 rfl ?_
      refine w_iload_n F dX0_delay_33 rfl ?_
      refine w_icmp_ne F (tgt := 40) dX0_delay_34 (by decide) (by first | assumption | exact inR0 | exact (hR _ _ _).1 | (constructor <;> omega)) (by first | assumption | exact inR0 | exact (hR _ _ _).1 | (constructor <;> omega)) (fun h3 => ?_) (fun h3 => ?_)
      · refine w_aload_n F dX0_delay_40 rfl rfl ?_
        refine w_callV F (As := []) (ct_noteUndo hE γ hF) (lw_V q652 q654 qs19 q70 q655) md_X0_noteUndo (by omega) rfl rfl rfl rfl rfl (Nat.le_of_ble_eq_true rfl) dX0_delay_41 ⟨by omega, by omega⟩ ⟨by omega, by omega⟩ ?_
        rintro _ g ⟨rfl, a1, a2, hG⟩
        refine w_aload_n F dX0_delay_44 rfl rfl ?_
        refine w_get F (by omega) rfl rfl in_X0 2 (by decide) (Or.inl q542) rfl dX0_delay_45 ?_
        refine w_iload_n F dX0_delay_48 rfl ?_
        refine w_iload_n F dX0_delay_49 rfl ?_
        refine w_callV F (As := [_, _]) (ct_delayS hE hA hH g (k := 1) (by omega) hG.1 hV hi h2) (lw_V q689 q690 q691 q71 q692) md_X1_delay (by omega) (cell_stO (by omega)) rfl rfl rfl rfl (Nat.le_of_ble_eq_true rfl) dX0_delay_50 ⟨by omega, by omega⟩ ⟨by omega, by omega⟩ ?_
        rintro _ g2 ⟨rfl, s1, o1⟩
        refine w_iload_n F dX0_delay_53 rfl ?_
        exact w_iret F (by omega) (by omega) (⟨by rw [o1 0 (by decide)]; exact a1, fun f q1 q2 => by rw [o1 1 (by decide)]; exact a2 f q1 q2, Or.inr (Or.inr ⟨⟨hjp, h2⟩, by rw [Int.toNat_natCast]; exact h3, by rw [Int.toNat_natCast], by rw [Int.toNat_natCast]; exact hG.act o1 s1 hb2⟩)⟩) dX0_delay_54
      · refine w_bipush F dX0_delay_37 rfl ?_
        exact w_iret F (by omega) (by omega) (⟨rfl, fun _ _ _ => rfl, Or.inr (Or.inl ⟨⟨hjp, h2⟩, by rw [Int.toNat_natCast]; exact h3, rfl, hF⟩)⟩) dX0_delay_39
    · rw [b2i_0] at h2
      exact bad (fun q => h2 q.2)
theorem ct_levelD (hE : EOk E) (hA : AhOk l E) (γ : GG) {v : VV} {vu vk : List VV} (hF : DF γ v vu vk) (hV : VOk v) : Ct l yX0_level cX0_level 1 (some .int) E 1000 52000 [.ref (E.ad 0)] γ (fun r g => g 0 = γ 0 ∧ (∀ f, f ≠ 6 → f ≠ 7 → g 1 f = γ 1 f) ∧ r = some (.int (iI (dmax (bld (keyT v.2.1) (tl v.2.2)) : Int))) ∧ DF g (v.1, v.2.1, bld (keyT v.2.1) (tl v.2.2)) (undN vu v) vk) 0 0 := by
  refine Ct.of hE (by decide) (Nat.le_of_ble_eq_true rfl) (fun Φ hLn hΦ F hfr hlo => ?_)
  subst hLn; subst hΦ
  have h414 := F.ok.1.2.2
  have hrc := F.rc
  have hrs := F.rs
  show Wg Φ 1 _ 0 0 0 [(0, _)] []
  refine w_rng (fun hR => ?_)
  have hb2 := hV.1.1
  refine w_aload_n F dX0_level_0 rfl rfl ?_
  refine w_callV F (As := []) (ct_noteUndo hE γ hF) (lw_V q652 q654 qs19 q70 q655) md_X0_noteUndo (by omega) rfl rfl rfl rfl rfl (Nat.le_of_ble_eq_true rfl) dX0_level_1 ⟨by omega, by omega⟩ ⟨by omega, by omega⟩ ?_
  rintro _ g ⟨rfl, a1, a2, hG⟩
  refine w_aload_n F dX0_level_4 rfl rfl ?_
  refine w_get F (by omega) rfl rfl in_X0 2 (by decide) (Or.inl q542) rfl dX0_level_5 ?_
  refine w_callV F (As := []) (ct_levelAll hE hA g (k := 1) (by omega) hG.1 hV) (lw_V q697 q698 q699 q71 q700) md_X1_levelAll (by omega) (cell_stO (by omega)) rfl rfl rfl rfl (Nat.le_of_ble_eq_true rfl) dX0_level_8 ⟨by omega, by omega⟩ ⟨by omega, by omega⟩ ?_
  rintro _ g2 ⟨rfl, s1, o1⟩
  exact w_iret F (by omega) (by omega) (⟨by rw [o1 0 (by decide)]; exact a1, fun f q1 q2 => by rw [o1 1 (by decide)]; exact a2 f q1 q2, rfl, hG.act o1 s1 hb2⟩) dX0_level_11
end D14
