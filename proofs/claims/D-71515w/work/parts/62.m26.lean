/-! the model: day -/
theorem VOk.turn {v : VV} (h : VOk v) (n : Nat) : VOk (dtn v n).1 ∧ (dtn v n).2 ≤ 1 := by
  unfold dtn
  split
  · rename_i hc
    exact ⟨h.add ⟨by omega, by omega, by omega, by omega⟩ (by omega), lev_n _ _ _⟩
  · split
    · refine ⟨h.cut ?_ (h.two (by omega)), cut_n _ _ _⟩
      obtain ⟨z, hz⟩ := List.exists_mem_of_length_pos (tl_pos v.2.2)
      have hj0 := (h.2.1.1 z).mp hz
      have hj12 := tb12 h.1.1 hj0
      exact pick_spec 12 (n / 4 % 12) ((z + 12 - n / 4 % 12) % 12) (by omega) (by omega) (by rw [show (n / 4 % 12 + (z + 12 - n / 4 % 12) % 12) % 12 = z by omega]; exact hj0)
    · exact ⟨h, by omega⟩
def dyx (s i : Nat) : Nat := (7919 * s + 6151 * i + 1) * (7919 * s + 6151 * i + 1) % 65521
def dyn (s : Nat) (v : VV) : Nat → VV × Nat
  | 0 => (v, 0)
  | i + 1 => ((dtn (dyn s v i).1 (dyx s i)).1, (dyn s v i).2 + (dtn (dyn s v i).1 (dyx s i)).2)
theorem dyn_ok {s : Nat} {v : VV} (h : VOk v) : ∀ i, VOk (dyn s v i).1 ∧ (dyn s v i).2 ≤ i
  | 0 => ⟨h, Nat.le_refl _⟩
  | i + 1 => by
    have ih := dyn_ok (s := s) h i
    have := ih.1.turn (dyx s i)
    exact ⟨this.1, by show _ + _ ≤ _; omega⟩
abbrev okD (s t w : Int) : Prop := (0 ≤ s ∧ s ≤ 9999) ∧ (1 ≤ t ∧ t ≤ 40) ∧ (0 ≤ w ∧ w ≤ 2)
def qDay (v : VV) (s t w : Int) : Int := if w = 0 then (cnt (dyn s.toNat v t.toNat).1.1 12 : Int) else if w = 1 then bst (rkT (dyn s.toNat v t.toNat).1.2.1) (fun _ => true) (tl (dyn s.toNat v t.toNat).1.2.2) else ((dyn s.toNat v t.toNat).2 : Int)
section M26
variable {l : Launch} {E : EE}
theorem w_topL {Φ : PH} {nL : Nat} {γ : GG} {k n pc : Nat} {lv : List (Nat × Value)} {st : List Value} {z z' : Int} (h : z = z') (kk : Wg Φ nL γ k n pc lv (.long (lI z') :: st)) : Wg Φ nL γ k n pc lv (.long (lI z) :: st) := by rw [h]; exact kk
abbrev offD : List Nat := [0, 1, 2, 3, 4, 5, 6, 7, 8, 9, 10, 11, 12, 13, 14, 15, 16, 17, 18, 23]
theorem ct_dayM (hE : EOk E) (hm : 438 ≤ E.nk) (γ : GG) {Lb : Int} {v : VV} {vu vk : List VV} (hF : MF (γ 0) Lb v vu vk) (hV : VOk v) (hLb : Lb < 1000000000) {s t w : Int} (hs : InR s) (ht : InR t) (hw : InR w) : Ct l yX8_day cX8_day 8 (some .int) E 700 40000 [.ref (E.ad 414), .int (iI s), .int (iI t), .int (iI w)] γ (fun r g => Off0 offD γ g ∧ MF (g 0) Lb v vu vk ∧ ((¬ okD s t w ∧ r = some (.int (iI (-1)))) ∨ (okD s t w ∧ r = some (.int (iI (qDay v s t w)))))) 0 0 := by
  refine Ct.of hE (by decide) (Nat.le_of_ble_eq_true rfl) (fun Φ hLn hΦ F hfr hlo => ?_)
  subst hLn; subst hΦ
  have h414 := F.ok.1.2.2
  have hrc := F.rc
  have hrs := F.rs
  show Wg Φ 8 _ 0 0 0 [(0, _), (1, _), (2, _), (3, _)] []
  refine w_rng (fun hR => ?_)
  refine w_iload_n F dX8_day_0 rfl ?_
  refine w_iconst F dX8_day_1 ?_
  refine w_sipush F dX8_day_2 rfl ?_
  refine w_callS F (As := [_, _, _]) (ct_in hE γ hs inR0 (by decide)) (lw_S q980 q981 q88 q982) md_X8_in rfl rfl (Nat.le_of_ble_eq_true rfl) dX8_day_5 ⟨by omega, by omega⟩ ⟨by omega, by omega⟩ ?_
  rintro _ _ ⟨rfl, rfl⟩
  refine w_if_eq F (tgt := 30) dX8_day_8 (by decide) (b2i_R _) (fun h1 => ?_) (fun h1 => ?_)
  · rw [b2i_0] at h1
    refine w_iconst F dX8_day_30 ?_
    exact w_iret F (by omega) (by omega) (⟨Off0.rf, hF, Or.inl ⟨fun q => h1 q.1, rfl⟩⟩) dX8_day_31
  · rw [b2i_n0] at h1
    refine w_iload_n F dX8_day_11 rfl ?_
    refine w_iconst F dX8_day_12 ?_
    refine w_bipush F dX8_day_13 rfl ?_
    refine w_callS F (As := [_, _, _]) (ct_in hE γ ht (by decide) (by decide)) (lw_S q980 q981 q88 q982) md_X8_in rfl rfl (Nat.le_of_ble_eq_true rfl) dX8_day_15 ⟨by omega, by omega⟩ ⟨by omega, by omega⟩ ?_
    rintro _ _ ⟨rfl, rfl⟩
    refine w_if_eq F (tgt := 30) dX8_day_18 (by decide) (b2i_R _) (fun h2 => ?_) (fun h2 => ?_)
    · rw [b2i_0] at h2
      refine w_iconst F dX8_day_30 ?_
      exact w_iret F (by omega) (by omega) (⟨Off0.rf, hF, Or.inl ⟨fun q => h2 q.2.1, rfl⟩⟩) dX8_day_31
    · rw [b2i_n0] at h2
      refine w_iload_n F dX8_day_21 rfl ?_
      refine w_iconst F dX8_day_22 ?_
      refine w_iconst F dX8_day_23 ?_
      refine w_callS F (As := [_, _, _]) (ct_in hE γ hw inR0 (by decide)) (lw_S q980 q981 q88 q982) md_X8_in rfl rfl (Nat.le_of_ble_eq_true rfl) dX8_day_24 ⟨by omega, by omega⟩ ⟨by omega, by omega⟩ ?_
      rintro _ _ ⟨rfl, rfl⟩
      refine w_if_ne F (tgt := 32) dX8_day_27 (by decide) (b2i_R _) (fun h3 => ?_) (fun h3 => ?_)
      · rw [b2i_n0] at h3
        obtain ⟨sn, rfl⟩ : ∃ n : Nat, s = (n : Int) := ⟨s.toNat, by omega⟩
        obtain ⟨tn, rfl⟩ : ∃ n : Nat, t = (n : Int) := ⟨t.toNat, by omega⟩
        refine w_aload_n F dX8_day_32 rfl rfl ?_
        refine w_aload_n F dX8_day_33 rfl rfl ?_
        refine w_get F (by omega) cell_mdO rfl in_X8 23 (by decide) (Or.inl q895) rfl dX8_day_34 ?_
        refine w_iconst F dX8_day_37 ?_
        refine w_callV F (As := [_, _]) (ct_lays hE hm γ (aM23 _) (by omega) (Or.inr (Or.inr rfl)) (by decide) (a := 0) (by omega)) (lw_V q1038 q1040 qs57 q88 q1041) md_X8_lays (by omega) cell_mdO rfl rfl rfl rfl (Nat.le_of_ble_eq_true rfl) dX8_day_38 ⟨by omega, by omega⟩ ⟨by omega, by omega⟩ ?_
        rintro _ g1 ⟨rfl, hg⟩
        have hsn := sn_laid hg hF.1 hF.2.1 hF.2.2.1
        have o1 : Off0 [23] γ g1 := hg.2.2
        have hM1 : MV (g1 0) v.1 v.2.1 v.2.2 := hF.1.cong hF.2.2.1 (fun f i hp => by rw [o1 0 f (by unfold PK2 at hp; simp; omega)])
        have h11 : g1 0 11 0 = γ 0 11 0 := by rw [o1.f 11 rfl]
        refine w_aload_n F dX8_day_41 rfl rfl ?_
        refine w_getF F (fM11 _) (by omega) rfl in_X8 (by decide) (Or.inl q883) dX8_day_42 ?_
        refine w_top h11 ?_
        refine w_istore F dX8_day_45 (by decide) rfl (lv' := [(0, _), (1, _), (2, _), (3, _), (4, _)]) rfl ?_
        refine w_iconst F dX8_day_47 ?_
        refine w_istore F dX8_day_48 (by decide) rfl (lv' := [(0, _), (1, _), (2, _), (3, _), (4, _), (5, _)]) rfl ?_
        have fin : ∀ g : GG, MV (g 0) (dyn sn v tn).1.1 (dyn sn v tn).1.2.1 (dyn sn v tn).1.2.2 → g 0 11 0 = γ 0 11 0 + ((dyn sn v tn).2 : Int) → Off0 offD γ g → g 0 23 = g1 0 23 → Wg Φ 8 g 0 0 93 [(0, .ref (Φ.E.ad 414)), (1, .int (iI (sn : Int))), (2, .int (iI (tn : Int))), (3, .int (iI w)), (4, .int (iI (γ 0 11 0)))] [] := by
          intro g a1 a2 a3 a4
          have hVt := dyn_ok (s := sn) hV tn
          obtain ⟨vt, hvt⟩ : ∃ q, q = (dyn sn v tn).1 := ⟨_, rfl⟩
          have hq : qDay v (sn : Int) (tn : Int) w = if w = 0 then (cnt vt.1 12 : Int) else if w = 1 then bst (rkT vt.2.1) (fun _ => true) (tl vt.2.2) else ((dyn sn v tn).2 : Int) := by unfold qDay; rw [Int.toNat_natCast, Int.toNat_natCast, ← hvt]
          rw [← hvt] at hVt a1
          obtain ⟨r, ns, c1, c2, c3, c4, c5, c6⟩ := a1.get hVt.1
          refine w_aload_n F dX8_day_93 rfl rfl ?_
          refine w_callV F (As := []) (ct_setHolds hE hm g c1 c2 c3.1 hVt.1.2.1.2 c4) (lw_V q995 q997 qs49 q88 q998) md_X8_setHolds (by omega) cell_mdO rfl rfl rfl rfl (Nat.le_of_ble_eq_true rfl) dX8_day_94 ⟨by omega, by omega⟩ ⟨by omega, by omega⟩ ?_
          rintro _ g3 ⟨rfl, h17, h16, o⟩
          have o3 : Off0 offD γ g3 := a3.tr (o.mono (by decide))
          have e23 : g3 0 23 = g1 0 23 := by rw [o.f 23 rfl]; exact a4
          have hr := c2.lt
          have hhd : g3 0 16 r = bst (rkT vt.2.1) (fun _ => true) (tl vt.2.2) := by
            obtain ⟨r1, hr1⟩ := c2.hd
            obtain ⟨r2, hr2⟩ := hl_hd (rkT (g 0)) vt.2.2 (fun _ => true)
            rw [hr1, hr2] at h16
            simp at h16
            rw [h16.1]
            exact bst_cg c5 (fun _ _ => rfl)
          have hcl := cnt_le vt.1 12
          have fi2 : ∀ z : Int, InR z → z = qDay v (sn : Int) (tn : Int) w → Wg Φ 8 g3 0 0 133 [(0, .ref (Φ.E.ad 414)), (1, .int (iI (sn : Int))), (2, .int (iI (tn : Int))), (3, .int (iI w)), (4, .int (iI (γ 0 11 0)))] [.int (iI z)] := by
            intro z hz1 hz
            refine w_istore F dX8_day_133 (by decide) rfl (lv' := [(0, _), (1, _), (2, _), (3, _), (4, _), (5, _)]) rfl ?_
            refine w_aload_n F dX8_day_135 rfl rfl ?_
            refine w_aload_n F dX8_day_136 rfl rfl ?_
            refine w_get F (by omega) cell_mdO rfl in_X8 23 (by decide) (Or.inl q895) rfl dX8_day_137 ?_
            refine w_iconst F dX8_day_140 ?_
            refine w_callV F (As := [_, _]) (ct_takes hE hm _ (aM23 _) (by omega) (Or.inr (Or.inr rfl)) (by decide) (a := 0) (by omega)) (lw_V q1066 q1068 qs60 q88 q1069) md_X8_takes (by omega) cell_mdO rfl rfl rfl rfl (Nat.le_of_ble_eq_true rfl) dX8_day_141 ⟨by omega, by omega⟩ ⟨by omega, by omega⟩ ?_
            rintro _ g4 ⟨rfl, hk⟩
            have hs : SnOk Lb (fun q => g3 0 23 (0 + q)) v := by rw [e23]; exact hsn
            obtain ⟨m1, m2⟩ := MV.taken hs hk
            have o4 : Off0 offD γ g4 := o3.tr (hk.2.mono (by decide))
            refine w_iload F dX8_day_144 rfl ?_
            exact w_iret F (by omega) (by omega) (⟨o4, MF.off (σ := g4 0) hF o4 rfl (by omega) m1 hF.2.2.1 m2, Or.inr ⟨⟨h1, h2, h3⟩, by rw [hz]⟩⟩) dX8_day_146
          refine w_pop F dX8_day_97 rfl ?_
          refine w_iload_n F dX8_day_98 rfl ?_
          refine w_if_ne F (tgt := 109) dX8_day_99 (by decide) (by first | assumption | exact inR0 | exact (hR _ _ _).1 | (constructor <;> omega)) (fun h4 => ?_) (fun h4 => ?_)
          · refine w_iload_n F dX8_day_109 rfl ?_
            refine w_iconst F dX8_day_110 ?_
            refine w_icmp_ne F (tgt := 126) dX8_day_111 (by decide) (by first | assumption | exact inR0 | exact (hR _ _ _).1 | (constructor <;> omega)) (by first | assumption | exact inR0 | exact (hR _ _ _).1 | (constructor <;> omega)) (fun h5 => ?_) (fun h5 => ?_)
            · refine w_aload_n F dX8_day_126 rfl rfl ?_
              refine w_getF F (fM11 _) (by omega) rfl in_X8 (by decide) (Or.inl q883) dX8_day_127 ?_
              refine w_top (z' := γ 0 11 0 + ((dyn sn v tn).2 : Int)) (by rw [o.f 11 rfl]; exact a2) ?_
              have hl0 := hF.2.1
              refine w_iload F dX8_day_130 rfl ?_
              refine w_isub F dX8_day_132 ?_
              exact fi2 _ (by omega) (by rw [hq, if_neg h4, if_neg h5]; omega)
            · refine w_aload_n F dX8_day_114 rfl rfl ?_
              refine w_get F (by omega) cell_mdO rfl in_X8 16 (by decide) (Or.inl q888) rfl dX8_day_115 ?_
              refine w_aload_n F dX8_day_118 rfl rfl ?_
              refine w_getF F (fM5 _) (by omega) rfl in_X8 (by decide) (Or.inl q877) dX8_day_119 ?_
              refine w_top (z' := (r : Int)) (by rw [o.f 5 rfl]; exact c1) ?_
              first | refine w_ialdN F (aM16 _) (by omega) (by decide) (by omega) dX8_day_122 ?_ | refine w_iald F (aM16 _) (by omega) (by decide) (by omega) (by omega) dX8_day_122 ?_
              refine w_top hhd ?_
              refine w_goto F (tgt := 133) dX8_day_123 (by decide) ?_
              refine w_rng (fun hR => ?_)
              exact fi2 _ (by rw [← hhd]; exact (hR _ _ _).1) (by rw [hq, if_neg h4, if_pos (by omega)])
          · refine w_aload_n F dX8_day_102 rfl rfl ?_
            refine w_callV F (As := []) (ct_many hE hm g3 (b := vt.1) (by rw [o.f 0 rfl]; exact a1.1) hVt.1.1.1) (lw_V q1030 q1032 qs55 q88 q1033) md_X8_many (by omega) cell_mdO rfl rfl rfl rfl (Nat.le_of_ble_eq_true rfl) dX8_day_103 ⟨by omega, by omega⟩ ⟨by omega, by omega⟩ ?_
            rintro _ _ ⟨rfl, rfl⟩
            refine w_goto F (tgt := 133) dX8_day_106 (by decide) ?_
            exact fi2 _ (by omega) (by rw [hq, if_pos (by omega)])
        have loop : ∀ (m i : Nat) (g : GG), i ≤ tn → tn - i < m → MV (g 0) (dyn sn v i).1.1 (dyn sn v i).1.2.1 (dyn sn v i).1.2.2 → g 0 11 0 = γ 0 11 0 + ((dyn sn v i).2 : Int) → Off0 offD γ g → g 0 23 = g1 0 23 → Wg Φ 8 g 0 0 50 [(0, .ref (Φ.E.ad 414)), (1, .int (iI (sn : Int))), (2, .int (iI (tn : Int))), (3, .int (iI w)), (4, .int (iI (γ 0 11 0))), (5, .int (iI (i : Int)))] [] := by
          intro m
          induction m with
          | zero => intro i g b1 b2; omega
          | succ m ih =>
            intro i g b1 b2 a1 a2 a3 a4
            have hVi := dyn_ok (s := sn) hV i
            refine w_iload F dX8_day_50 rfl ?_
            refine w_iload_n F dX8_day_52 rfl ?_
            refine w_icmp_ge F (tgt := 93) dX8_day_53 (by decide) (by first | assumption | exact inR0 | exact (hR _ _ _).1 | (constructor <;> omega)) (by first | assumption | exact inR0 | exact (hR _ _ _).1 | (constructor <;> omega)) (fun h4 => ?_) (fun h4 => ?_)
            · have e : i = tn := by omega
              subst e
              refine w_keep [0, 1, 2, 3, 4] (lv' := [(0, _), (1, _), (2, _), (3, _), (4, _)]) rfl ?_
              exact fin g a1 a2 a3 a4
            · obtain ⟨x, hx⟩ : ∃ x : Nat, x = 7919 * sn + 6151 * i + 1 := ⟨_, rfl⟩
              have hxl : x ≤ 80000000 := by omega
              have hxx : x * x ≤ 80000000 * 80000000 := Nat.mul_le_mul hxl hxl
              have e1 : (7919 : Int64).toInt = 7919 := rfl
              have e2 : (6151 : Int64).toInt = 6151 := rfl
              refine w_ldc2 F q1125 dX8_day_56 ?_
              refine w_iload_n F dX8_day_59 rfl ?_
              refine w_i2l F dX8_day_60 (by first | assumption | exact inR0 | exact (hR _ _ _).1 | (constructor <;> omega)) ?_
              refine w_lmul F dX8_day_61 ?_
              refine w_ldc2 F q1126 dX8_day_62 ?_
              refine w_iload F dX8_day_65 rfl ?_
              refine w_i2l F dX8_day_67 (by first | assumption | exact inR0 | exact (hR _ _ _).1 | (constructor <;> omega)) ?_
              refine w_lmul F dX8_day_68 ?_
              refine w_ladd F dX8_day_69 ?_
              refine w_lconst F dX8_day_70 ?_
              refine w_ladd F dX8_day_71 ?_
              refine w_topL (z' := (x : Int)) (by rw [e1, e2]; simp; omega) ?_
              refine w_lstore F dX8_day_72 (by decide) rfl (lv' := [(0, _), (1, _), (2, _), (3, _), (4, _), (5, _), (6, _)]) rfl ?_
              refine w_aload_n F dX8_day_74 rfl rfl ?_
              refine w_lload F dX8_day_75 rfl ?_
              refine w_lload F dX8_day_77 rfl ?_
              refine w_lmul F dX8_day_79 ?_
              refine w_topL (z' := ((x * x : Nat) : Int)) (by rw [Int.natCast_mul]) ?_
              refine w_ldc2 F q1127 dX8_day_80 ?_
              refine w_topL (z' := ((65521 : Nat) : Int)) rfl ?_
              refine w_lrem F dX8_day_83 (by omega) (by omega) (by omega) ?_
              rw [show x * x % 65521 = dyx sn i by rw [hx]; rfl]
              have hdl : dyx sn i < 65521 := Nat.mod_lt _ (by decide)
              have hl0 := hF.2.1
              refine w_callV F (As := [_]) (ct_dayTurn hE hm g a1 hVi.1 (n := dyx sn i) (by omega) (by omega)) (lw_V q1128 q1130 qs63 q88 q1131) md_X8_dayTurn (by omega) cell_mdO rfl rfl rfl rfl (Nat.le_of_ble_eq_true rfl) dX8_day_84 ⟨by omega, by omega⟩ ⟨by omega, by omega⟩ ?_
              rintro _ g2 ⟨rfl, k1, k2, k3⟩
              refine w_iinc F dX8_day_87 rfl (by decide) rfl (lv' := [(0, _), (1, _), (2, _), (3, _), (4, _), (5, _), (6, _)]) rfl ?_
              refine w_goto F (tgt := 50) dX8_day_90 (by decide) ?_
              refine w_keep [0, 1, 2, 3, 4, 5] (lv' := [(0, _), (1, _), (2, _), (3, _), (4, _), (5, _)]) rfl ?_
              exact ih (i + 1) g2 (by omega) (by omega) k1 (by rw [k2, a2]; simp [dyn]; omega) (a3.tr (k3.mono (by decide))) (by rw [k3.f 23 rfl]; exact a4)
        exact loop (tn + 1) 0 g1 (by omega) (by omega) hM1 (by rw [h11]; simp [dyn]) (o1.mono (by decide)) rfl
      · rw [b2i_0] at h3
        refine w_iconst F dX8_day_30 ?_
        exact w_iret F (by omega) (by omega) (⟨Off0.rf, hF, Or.inl ⟨fun q => h3 q.2.2, rfl⟩⟩) dX8_day_31
end M26
