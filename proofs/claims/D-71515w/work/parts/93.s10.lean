/-! State: own, copy -/
theorem isB_s {k f : Nat} (h : [4, 5, 6, 7, 9, 11].contains f = true) : isB (2 + k) f = true := by
  simp at h
  unfold isB
  simp
  omega
def CP (σ σ' : Nat → Nat → Int) : Prop := ∀ f z, (f ≤ 2 ∧ z = 0) ∨ (21 ≤ f ∧ f ≤ 26 ∧ z < 23) ∨ (4 ≤ f ∧ f ≤ 7 ∧ z < 12) → σ' f z = σ f z
theorem SV.cp {σ σ' : Nat → Nat → Int} {v : VV} (h : SV σ v) (hb : v.1 < 4096) (c : CP σ σ') : SV σ' v := by
  obtain ⟨h1, ⟨x, ns, a1, a2, a3, a4⟩, h3⟩ := h
  refine ⟨by rw [c 0 0 (by omega)]; exact h1, ⟨x, ns, by rw [c 2 0 (by omega)]; exact a1, a2.cg (fun z hz f q1 q2 => c f z (by have := a2.all z hz; omega)), a3, a4.cg (c 1 0 (by omega)) a3 (fun _ => Iff.rfl)⟩, fun j hj => ?_⟩
  have hj12 := tb12 hb hj
  rw [c 4 j (by omega), c 5 j (by omega), c 6 j (by omega), c 7 j (by omega)]
  exact h3 j hj
section S10
variable {l : Launch} {E : EE}
theorem ct_own0 (hE : EOk E) (γ : GG) {k : Nat} (hk : k < 13) : Ct l yX1_own cX1_own 2 (some (.object "DeadlineTree$Node")) E 100 16000 [.ref (E.ad (11 + 31 * k)), .null] γ (pR .null γ) 0 0 := by
  refine Ct.of hE (by decide) (Nat.le_of_ble_eq_true rfl) (fun Φ hLn hΦ F hfr hlo => ?_)
  subst hLn; subst hΦ
  have h414 := F.ok.1.2.2
  have hrc := F.rc
  have hrs := F.rs
  show Wg Φ 2 _ 0 0 0 [(0, _), (1, _)] []
  refine w_rng (fun hR => ?_)
  refine w_aload_n F dX1_own_0 rfl (by first | rfl | exact rf_isRef _) ?_
  refine w_nlN (i := k) ?_
  refine w_ifnonnull F (tgt := 8) dX1_own_1 (by decide)  (fun h => ?_) (fun h => ?_)
  · omega
  · refine w_null F dX1_own_4 ?_
    refine w_goto F (tgt := 17) dX1_own_5 (by decide) ?_
    exact w_aret F (by first | exact Or.inr ⟨_, rfl⟩ | exact Or.inl rfl | exact rf_or _) (by omega) (by omega) (⟨rfl, rfl⟩) dX1_own_17
theorem ct_ownN (hE : EOk E) (γ : GG) {k k2 x : Nat} (hk : k < 13) (hk2 : k2 < 13) (hx : x < 23) : Ct l yX1_own cX1_own 2 (some (.object "DeadlineTree$Node")) E 100 16000 [.ref (E.ad (11 + 31 * k)), .ref (E.ad (19 + 31 * k2 + x))] γ (pR (.ref (E.ad (19 + 31 * k + x))) γ) 0 0 := by
  refine Ct.of hE (by decide) (Nat.le_of_ble_eq_true rfl) (fun Φ hLn hΦ F hfr hlo => ?_)
  subst hLn; subst hΦ
  have h414 := F.ok.1.2.2
  have hrc := F.rc
  have hrs := F.rs
  show Wg Φ 2 _ 0 0 0 [(0, _), (1, _)] []
  refine w_rng (fun hR => ?_)
  refine w_aload_n F dX1_own_0 rfl rfl ?_
  refine w_frN ?_
  refine w_ifnonnull F (tgt := 8) dX1_own_1 (by decide)  (fun h => ?_) (fun h => ?_)
  · refine w_aload_n F dX1_own_8 rfl rfl ?_
    refine w_get F (by omega) (cell_stO (by omega)) rfl in_X1 3 (by decide) (Or.inl q153) rfl dX1_own_9 ?_
    refine w_aload_n F dX1_own_12 rfl rfl ?_
    refine w_get F (by omega) (cell_nd (by omega) (by omega)) rfl in_X2 0 (by decide) (Or.inr q114) rfl dX1_own_13 ?_
    first | refine w_nodesN F (by omega) (by omega) (by omega) dX1_own_16 ?_ | refine w_nodes F (by omega) (by omega) (by omega) (by omega) dX1_own_16 ?_
    exact w_aret F (by first | exact Or.inr ⟨_, rfl⟩ | exact Or.inl rfl | exact rf_or _) (by omega) (by omega) (⟨rfl, rfl⟩) dX1_own_17
  · omega
end S10
section OW
variable {Φ : PH} {cc : ByteArray} {nL : Nat} {ret : Option FieldType} {post : Option Value → GG → Prop} {mc ms : Nat} {γ : GG} {k n pc : Nat} {lv lv' : List (Nat × Value)} {st : List Value}
theorem w_own (F : Fx Φ cc yX1_copy.cls nL ret post mc ms) {i i2 : Nat} (hi : i < 13) (hi2 : i2 < 13) {z : Int} (hz : -1 ≤ z ∧ z < 23) (hcat : (st.map fun v => v.category).sum ≤ 8) (hdg : decode cc pc = .ok (.invokevirtual 57, 3)) (hR : 101 ≤ Φ.R.frames ∧ 16021 ≤ Φ.R.locals) (hf : k ≤ Φ.R.cells ∧ n ≤ Φ.R.slots) (h : Wg Φ nL γ k n (pc + 3) lv (va_rf (onode Φ.E.ad i z) :: st)) : Wg Φ nL γ k n pc lv (va_rf (onode Φ.E.ad i2 z) :: .ref (Φ.E.ad (11 + 31 * i)) :: st) := by
  have h414 := F.ok.1.2.2
  by_cases h0 : z < 0
  · rw [onode_n h0] at h ⊢
    refine w_callV F (As := [_]) (ct_own0 F.ok γ hi) (lw_V q532 q534 qs17 q71 q535) md_X1_own (by omega) (cell_stO (by omega)) rfl rfl rfl rfl hcat hdg ⟨by omega, by omega⟩ ⟨by omega, by omega⟩ ?_
    rintro _ _ ⟨rfl, rfl⟩
    exact h
  · rw [onode_s (j := z.toNat) (by omega)] at h ⊢
    refine w_callV F (As := [_]) (ct_ownN F.ok γ hi hi2 (x := z.toNat) (by omega)) (lw_V q532 q534 qs17 q71 q535) md_X1_own (by omega) (cell_stO (by omega)) rfl rfl rfl rfl hcat hdg ⟨by omega, by omega⟩ ⟨by omega, by omega⟩ ?_
    rintro _ _ ⟨rfl, rfl⟩
    exact h
end OW
section S11
variable {l : Launch} {E : EE}
theorem ct_copyS (hE : EOk E) (γ : GG) {k k2 : Nat} (hk : k < 13) (hk2 : k2 < 13) (hne : k ≠ k2) : Ct l yX1_copy cX1_copy 5 none E 200 20000 [.ref (E.ad (11 + 31 * k)), .ref (E.ad (11 + 31 * k2))] γ (fun r g => r = none ∧ CP (γ (2 + k2)) (g (2 + k)) ∧ OnlyS k γ g) 0 0 := by
  refine Ct.of hE (by decide) (Nat.le_of_ble_eq_true rfl) (fun Φ hLn hΦ F hfr hlo => ?_)
  subst hLn; subst hΦ
  have h414 := F.ok.1.2.2
  have hrc := F.rc
  have hrs := F.rs
  show Wg Φ 5 _ 0 0 0 [(0, _), (1, _)] []
  refine w_rng (fun hR => ?_)
  have p2 := (hR (2 + k2) 2 0).2.2 (by unfold isP; simp)
  have p21 := fun i => (hR (2 + k2) 21 i).2.2 (by unfold isP; simp)
  have p22 := fun i => (hR (2 + k2) 22 i).2.2 (by unfold isP; simp)
  have hg2 : ∀ {g : GG} {f i : Nat} {z : Int}, gu g (2 + k) f i z (2 + k2) = g (2 + k2) := fun {g f i z} => gu_o (by omega)
  refine w_aload_n F dX1_copy_0 rfl rfl ?_
  refine w_aload_n F dX1_copy_1 rfl rfl ?_
  refine w_getF F (fS0 _ (by omega)) (by omega) rfl in_X1 (by decide) (Or.inl q148) dX1_copy_2 ?_
  refine w_putF F (fS0 _ (by omega)) (by omega) rfl in_X1 tyX1 tyX1_ok nmX1 (by decide) (Or.inl q148) rfl rfl rfl (by first | assumption | exact inR0 | exact (hR _ _ _).1 | (constructor <;> omega)) (noB rfl) (noP rfl) dX1_copy_5 ?_
  refine w_aload_n F dX1_copy_8 rfl rfl ?_
  refine w_aload_n F dX1_copy_9 rfl rfl ?_
  refine w_getF F (fS1 _ (by omega)) (by omega) rfl in_X1 (by decide) (Or.inl q150) dX1_copy_10 ?_
  refine w_top (z' := γ (2 + k2) 1 0) (by rw [hg2]) ?_
  refine w_putF F (fS1 _ (by omega)) (by omega) rfl in_X1 tyX1 tyX1_ok nmX1 (by decide) (Or.inl q150) rfl rfl rfl (by first | assumption | exact inR0 | exact (hR _ _ _).1 | (constructor <;> omega)) (noB rfl) (noP rfl) dX1_copy_13 ?_
  refine w_aload_n F dX1_copy_16 rfl rfl ?_
  refine w_aload_n F dX1_copy_17 rfl rfl ?_
  refine w_aload_n F dX1_copy_18 rfl rfl ?_
  refine w_getF F (fS2 _ (by omega)) (by omega) rfl in_X1 (by decide) (Or.inl q151) dX1_copy_19 ?_
  rw [hg2, hg2]
  refine w_own F hk hk2 p2 (Nat.le_of_ble_eq_true rfl) dX1_copy_22 ⟨by omega, by omega⟩ ⟨by omega, by omega⟩ ?_
  refine w_putF F (val := vN _ _) (fS2 _ (by omega)) (by omega) rfl in_X1 tyX1 tyX1_ok nmX1 (by decide) (Or.inl q151) rfl (by first | rfl | exact nar_rf _ _) (by first | rfl | exact fit_rf _ _) (by first | assumption | exact inR0 | exact (hR _ _ _).1 | (constructor <;> omega)) (noB rfl) (fun _ => by constructor <;> omega) dX1_copy_25 ?_
  refine w_iconst F dX1_copy_28 ?_
  refine w_istore_n F dX1_copy_29 (by decide) rfl (lv' := [(0, _), (1, _), (2, _)]) rfl ?_
  have loop : ∀ (n i : Nat) (g : GG), i ≤ 23 → 23 - i < n → OnlyS k γ g → (∀ f, f ≤ 2 → g (2 + k) f 0 = γ (2 + k2) f 0) → (∀ z, z < i → ∀ f, 21 ≤ f → f ≤ 26 → g (2 + k) f z = γ (2 + k2) f z) → Wg Φ 5 g 0 0 30 [(0, .ref (Φ.E.ad (11 + 31 * k))), (1, .ref (Φ.E.ad (11 + 31 * k2))), (2, .int (iI (i : Int)))] [] := by
    intro n
    induction n with
    | zero => intro i g a1 a2; omega
    | succ n ih =>
      intro i g a1 a2 a3 a4 a5
      have e2 : g (2 + k2) = γ (2 + k2) := a3 (2 + k2) (by omega)
      refine w_iload_n F dX1_copy_30 rfl ?_
      refine w_bipush F dX1_copy_31 rfl ?_
      refine w_icmp_ge F (tgt := 119) dX1_copy_33 (by decide) (by first | assumption | exact inR0 | exact (hR _ _ _).1 | (constructor <;> omega)) (by first | assumption | exact inR0 | exact (hR _ _ _).1 | (constructor <;> omega)) (fun h => ?_) (fun h => ?_)
      · refine w_aload_n F dX1_copy_119 rfl rfl ?_
        refine w_get F (by omega) (cell_stO (by omega)) rfl in_X1 4 (by decide) (Or.inl q154) rfl dX1_copy_120 ?_
        refine w_iconst F dX1_copy_123 ?_
        refine w_aload_n F dX1_copy_124 rfl rfl ?_
        refine w_get F (by omega) (cell_stO (by omega)) rfl in_X1 4 (by decide) (Or.inl q154) rfl dX1_copy_125 ?_
        refine w_iconst F dX1_copy_128 ?_
        refine w_bipush F dX1_copy_129 rfl ?_
        refine w_copyB F (aS4 _ (by omega)) (aS4 _ (by omega)) (by omega) (by omega) (isB_s rfl) (isP_n rfl) q536 (Nat.le_of_ble_eq_true rfl) ⟨by omega, by omega⟩ dX1_copy_131 ?_
        refine w_aload_n F dX1_copy_134 rfl rfl ?_
        refine w_get F (by omega) (cell_stO (by omega)) rfl in_X1 5 (by decide) (Or.inl q156) rfl dX1_copy_135 ?_
        refine w_iconst F dX1_copy_138 ?_
        refine w_aload_n F dX1_copy_139 rfl rfl ?_
        refine w_get F (by omega) (cell_stO (by omega)) rfl in_X1 5 (by decide) (Or.inl q156) rfl dX1_copy_140 ?_
        refine w_iconst F dX1_copy_143 ?_
        refine w_bipush F dX1_copy_144 rfl ?_
        refine w_copyB F (aS5 _ (by omega)) (aS5 _ (by omega)) (by omega) (by omega) (isB_s rfl) (isP_n rfl) q536 (Nat.le_of_ble_eq_true rfl) ⟨by omega, by omega⟩ dX1_copy_146 ?_
        refine w_aload_n F dX1_copy_149 rfl rfl ?_
        refine w_get F (by omega) (cell_stO (by omega)) rfl in_X1 6 (by decide) (Or.inl q158) rfl dX1_copy_150 ?_
        refine w_iconst F dX1_copy_153 ?_
        refine w_aload_n F dX1_copy_154 rfl rfl ?_
        refine w_get F (by omega) (cell_stO (by omega)) rfl in_X1 6 (by decide) (Or.inl q158) rfl dX1_copy_155 ?_
        refine w_iconst F dX1_copy_158 ?_
        refine w_bipush F dX1_copy_159 rfl ?_
        refine w_copyB F (aS6 _ (by omega)) (aS6 _ (by omega)) (by omega) (by omega) (isB_s rfl) (isP_n rfl) q536 (Nat.le_of_ble_eq_true rfl) ⟨by omega, by omega⟩ dX1_copy_161 ?_
        refine w_aload_n F dX1_copy_164 rfl rfl ?_
        refine w_get F (by omega) (cell_stO (by omega)) rfl in_X1 7 (by decide) (Or.inl q160) rfl dX1_copy_165 ?_
        refine w_iconst F dX1_copy_168 ?_
        refine w_aload_n F dX1_copy_169 rfl rfl ?_
        refine w_get F (by omega) (cell_stO (by omega)) rfl in_X1 7 (by decide) (Or.inl q160) rfl dX1_copy_170 ?_
        refine w_iconst F dX1_copy_173 ?_
        refine w_bipush F dX1_copy_174 rfl ?_
        refine w_copyB F (aS7 _ (by omega)) (aS7 _ (by omega)) (by omega) (by omega) (isB_s rfl) (isP_n rfl) q536 (Nat.le_of_ble_eq_true rfl) ⟨by omega, by omega⟩ dX1_copy_176 ?_
        obtain ⟨G, hG⟩ : ∃ z, z = gcp (gcp (gcp (gcp g (2 + k) 4 (2 + k2) 4 12) (2 + k) 5 (2 + k2) 5 12) (2 + k) 6 (2 + k2) 6 12) (2 + k) 7 (2 + k2) 7 12 := ⟨_, rfl⟩
        rw [← hG]
        have eG : ∀ f z, ¬ (4 ≤ f ∧ f ≤ 7) → G (2 + k) f z = g (2 + k) f z := fun f z hf => by
          rw [hG, gcp_at, if_neg (by omega), gcp_at, if_neg (by omega), gcp_at, if_neg (by omega), gcp_at, if_neg (by omega)]
        have eO : ∀ o, o ≠ 2 + k → G o = g o := fun o ho => by
          funext f z
          rw [hG, gcp_at, if_neg (by omega), gcp_at, if_neg (by omega), gcp_at, if_neg (by omega), gcp_at, if_neg (by omega)]
        have eC : ∀ f z, 4 ≤ f → f ≤ 7 → z < 12 → G (2 + k) f z = γ (2 + k2) f z := fun f z h1 h2 h3 => by
          rw [← e2, hG]
          have hkk : ¬ (2 + k2 = 2 + k) := by omega
          rcases (show f = 4 ∨ f = 5 ∨ f = 6 ∨ f = 7 by omega) with rfl | rfl | rfl | rfl
          · rw [gcp_at, if_neg (by omega), gcp_at, if_neg (by omega), gcp_at, if_neg (by omega), gcp_at, if_pos ⟨rfl, rfl, h3⟩]
          · rw [gcp_at, if_neg (by omega), gcp_at, if_neg (by omega), gcp_at, if_pos ⟨rfl, rfl, h3⟩, gcp_at, if_neg (by omega)]
          · rw [gcp_at, if_neg (by omega), gcp_at, if_pos ⟨rfl, rfl, h3⟩, gcp_at, if_neg (by omega), gcp_at, if_neg (by omega)]
          · rw [gcp_at, if_pos ⟨rfl, rfl, h3⟩, gcp_at, if_neg (by omega), gcp_at, if_neg (by omega), gcp_at, if_neg (by omega)]
        have hcp : CP (γ (2 + k2)) (G (2 + k)) := fun f z hfz => by
          rcases hfz with ⟨h1, h2⟩ | ⟨h1, h2, h3⟩ | ⟨h1, h2, h3⟩
          · subst h2; rw [eG f 0 (by omega)]; exact a4 f h1
          · rw [eG f z (by omega)]; exact a5 z (by omega) f h1 h2
          · exact eC f z h1 h2 h3
        exact w_vret F (by omega) (by omega) (⟨rfl, hcp, a3.tr (fun o ho => eO o ho)⟩) dX1_copy_179
      · have hi : i < 23 := by omega
        refine w_aload_n F dX1_copy_36 rfl rfl ?_
        refine w_get F (by omega) (cell_stO (by omega)) rfl in_X1 3 (by decide) (Or.inl q153) rfl dX1_copy_37 ?_
        refine w_iload_n F dX1_copy_40 rfl ?_
        first | refine w_nodesN F (by omega) (by omega) (by omega) dX1_copy_41 ?_ | refine w_nodes F (by omega) (by omega) (by omega) (by omega) dX1_copy_41 ?_
        refine w_astore_n F dX1_copy_42 (by decide) rfl (lv' := [(0, _), (1, _), (2, _), (3, _)]) rfl rfl ?_
        refine w_aload_n F dX1_copy_43 rfl rfl ?_
        refine w_get F (by omega) (cell_stO (by omega)) rfl in_X1 3 (by decide) (Or.inl q153) rfl dX1_copy_44 ?_
        refine w_iload_n F dX1_copy_47 rfl ?_
        first | refine w_nodesN F (by omega) (by omega) (by omega) dX1_copy_48 ?_ | refine w_nodes F (by omega) (by omega) (by omega) (by omega) dX1_copy_48 ?_
        refine w_astore F dX1_copy_49 (by decide) rfl (lv' := [(0, _), (1, _), (2, _), (3, _), (4, _)]) rfl rfl ?_
        refine w_aload_n F dX1_copy_51 rfl rfl ?_
        refine w_aload_n F dX1_copy_52 rfl rfl ?_
        refine w_aload F dX1_copy_53 rfl rfl ?_
        refine w_getF F (fN1 _ (by omega) (by omega)) (by omega) rfl in_X2 (by decide) (Or.inr q116) dX1_copy_55 ?_
        rw [e2]
        refine w_own F hk hk2 (p21 i) (Nat.le_of_ble_eq_true rfl) dX1_copy_58 ⟨by omega, by omega⟩ ⟨by omega, by omega⟩ ?_
        have q21 := p21 i
        have q22 := p22 i
        refine w_putF F (val := vN _ _) (fN1 _ (by omega) (by omega)) (by omega) rfl in_X2 tyX2 tyX2_ok nmX2 (by decide) (Or.inr q116) rfl (by first | rfl | exact nar_rf _ _) (by first | rfl | exact fit_rf _ _) (by first | assumption | exact inR0 | exact (hR _ _ _).1 | (constructor <;> omega)) (noB rfl) (fun _ => by constructor <;> omega) dX1_copy_61 ?_
        refine w_aload_n F dX1_copy_64 rfl rfl ?_
        refine w_aload_n F dX1_copy_65 rfl rfl ?_
        refine w_aload F dX1_copy_66 rfl rfl ?_
        refine w_getF F (fN2 _ (by omega) (by omega)) (by omega) rfl in_X2 (by decide) (Or.inr q118) dX1_copy_68 ?_
        rw [hg2, e2]
        refine w_own F hk hk2 (p22 i) (Nat.le_of_ble_eq_true rfl) dX1_copy_71 ⟨by omega, by omega⟩ ⟨by omega, by omega⟩ ?_
        refine w_putF F (val := vN _ _) (fN2 _ (by omega) (by omega)) (by omega) rfl in_X2 tyX2 tyX2_ok nmX2 (by decide) (Or.inr q118) rfl (by first | rfl | exact nar_rf _ _) (by first | rfl | exact fit_rf _ _) (by first | assumption | exact inR0 | exact (hR _ _ _).1 | (constructor <;> omega)) (noB rfl) (fun _ => by constructor <;> omega) dX1_copy_74 ?_
        refine w_aload_n F dX1_copy_77 rfl rfl ?_
        refine w_aload F dX1_copy_78 rfl rfl ?_
        refine w_getF F (fN3 _ (by omega) (by omega)) (by omega) rfl in_X2 (by decide) (Or.inr q122) dX1_copy_80 ?_
        refine w_top (z' := γ (2 + k2) 23 i) (by rw [hg2, hg2, e2]) ?_
        refine w_putF F (fN3 _ (by omega) (by omega)) (by omega) rfl in_X2 tyX2 tyX2_ok nmX2 (by decide) (Or.inr q122) rfl rfl rfl (by first | assumption | exact inR0 | exact (hR _ _ _).1 | (constructor <;> omega)) (noB rfl) (noP rfl) dX1_copy_83 ?_
        refine w_aload_n F dX1_copy_86 rfl rfl ?_
        refine w_aload F dX1_copy_87 rfl rfl ?_
        refine w_getF F (fN4 _ (by omega) (by omega)) (by omega) rfl in_X2 (by decide) (Or.inr q125) dX1_copy_89 ?_
        refine w_top (z' := γ (2 + k2) 24 i) (by rw [hg2, hg2, hg2, e2]) ?_
        refine w_putF F (fN4 _ (by omega) (by omega)) (by omega) rfl in_X2 tyX2 tyX2_ok nmX2 (by decide) (Or.inr q125) rfl rfl rfl (by first | assumption | exact inR0 | exact (hR _ _ _).1 | (constructor <;> omega)) (noB rfl) (noP rfl) dX1_copy_92 ?_
        refine w_aload_n F dX1_copy_95 rfl rfl ?_
        refine w_aload F dX1_copy_96 rfl rfl ?_
        refine w_getF F (fN5 _ (by omega) (by omega)) (by omega) rfl in_X2 (by decide) (Or.inr q128) dX1_copy_98 ?_
        refine w_top (z' := γ (2 + k2) 25 i) (by rw [hg2, hg2, hg2, hg2, e2]) ?_
        refine w_putF F (fN5 _ (by omega) (by omega)) (by omega) rfl in_X2 tyX2 tyX2_ok nmX2 (by decide) (Or.inr q128) rfl rfl rfl (by first | assumption | exact inR0 | exact (hR _ _ _).1 | (constructor <;> omega)) (noB rfl) (noP rfl) dX1_copy_101 ?_
        refine w_aload_n F dX1_copy_104 rfl rfl ?_
        refine w_aload F dX1_copy_105 rfl rfl ?_
        refine w_getF F (fN6 _ (by omega) (by omega)) (by omega) rfl in_X2 (by decide) (Or.inr q129) dX1_copy_107 ?_
        refine w_top (z' := γ (2 + k2) 26 i) (by rw [hg2, hg2, hg2, hg2, hg2, e2]) ?_
        refine w_putF F (fN6 _ (by omega) (by omega)) (by omega) rfl in_X2 tyX2 tyX2_ok nmX2 (by decide) (Or.inr q129) rfl rfl rfl (by first | assumption | exact inR0 | exact (hR _ _ _).1 | (constructor <;> omega)) (noB rfl) (noP rfl) dX1_copy_110 ?_
        refine w_iinc F dX1_copy_113 rfl (by decide) rfl (lv' := [(0, _), (1, _), (2, _), (3, _), (4, _)]) rfl ?_
        refine w_goto F (tgt := 30) dX1_copy_116 (by decide) ?_
        refine w_keep [0, 1, 2] (lv' := [(0, _), (1, _), (2, _)]) rfl ?_
        obtain ⟨g3, hg3⟩ : ∃ z, z = gu (gu (gu (gu (gu (gu g (2 + k) 21 i (γ (2 + k2) 21 i)) (2 + k) 22 i (γ (2 + k2) 22 i)) (2 + k) 23 i (γ (2 + k2) 23 i)) (2 + k) 24 i (γ (2 + k2) 24 i)) (2 + k) 25 i (γ (2 + k2) 25 i)) (2 + k) 26 i (γ (2 + k2) 26 i) := ⟨_, rfl⟩
        rw [← hg3]
        have o3 : OffS k (fun f z => 21 ≤ f ∧ f ≤ 26 ∧ z = i) g g3 := by rw [hg3]; exact (((((OffS.rf.up (by omega)).up (by omega)).up (by omega)).up (by omega)).up (by omega)).up (by omega)
        refine ih (i + 1) g3 (by omega) (by omega) (a3.tr o3.only) (fun f hf => by rw [o3.s (by omega)]; exact a4 f hf) (fun z hz f h1 h2 => ?_)
        by_cases ez : z = i
        · subst ez
          rw [hg3]
          rcases (show f = 21 ∨ f = 22 ∨ f = 23 ∨ f = 24 ∨ f = 25 ∨ f = 26 by omega) with rfl | rfl | rfl | rfl | rfl | rfl <;> simp [gu]
        · rw [o3.s (fun w => ez w.2.2)]
          exact a5 z (by omega) f h1 h2
  refine loop 24 0 _ (by omega) (by omega) ?_ (fun f hf => ?_) (fun z hz => by omega)
  · exact (((OffS.rf (P := fun f _ => f ≤ 2)).up (by omega)).up (by omega)).up (by omega) |>.only
  · rcases (show f = 0 ∨ f = 1 ∨ f = 2 by omega) with rfl | rfl | rfl <;> simp [gu]
end S11
