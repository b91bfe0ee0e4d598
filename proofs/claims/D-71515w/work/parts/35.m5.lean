/-! the model: levels -/
/-- a run of the row -/
def RowAt (ρ : Nat → Int) (fr : Nat) (S : List Nat) : Prop := ∀ (i v : Nat), S[i]? = some v → ρ (fr + i) = (v : Int)
theorem RowAt.take {ρ : Nat → Int} {fr : Nat} {S : List Nat} (h : RowAt ρ fr S) (m : Nat) : RowAt ρ fr (S.take m) := fun i v hi => by
  rw [List.getElem?_take] at hi
  split at hi
  · exact h i v hi
  · cases hi
theorem RowAt.drop {ρ : Nat → Int} {fr : Nat} {S : List Nat} (h : RowAt ρ fr S) (m : Nat) : RowAt ρ (fr + m) (S.drop m) := fun i v hi => by
  rw [List.getElem?_drop] at hi
  rw [Nat.add_assoc]
  exact h _ v hi
theorem lfM_off (γ : GG) (x j : Nat) : Off0 [6, 7, 8, 9, 10] γ (lfM γ x j) := ((((Off0.rf.up (by decide)).up (by decide)).up (by decide)).up (by decide)).up (by decide)
theorem lfM_at {γ : GG} {x j z : Nat} (h : z ≠ x) : ∀ f, lfM γ x j 0 f z = γ 0 f z := fun f => by
  unfold lfM
  rw [gu_n (by omega), gu_n (by omega), gu_n (by omega), gu_n (by omega), gu_n (by omega)]
theorem lfM_6 (γ : GG) (x j : Nat) : lfM γ x j 0 6 x = -1 := by simp [lfM, gu]
theorem lfM_8 (γ : GG) (x j : Nat) : lfM γ x j 0 8 x = j := by simp [lfM, gu]
theorem lfM_9 (γ : GG) (x j : Nat) : lfM γ x j 0 9 x = γ 0 2 j := by simp [lfM, gu]
theorem lfM_10 (γ : GG) (x j : Nat) : lfM γ x j 0 10 x = j := by simp [lfM, gu]
theorem lfM_rep {γ : GG} {x j : Nat} (hx : x < 24) (hj : j < 12) : RepM (lfM γ x j 0) (.leaf j) x [x] := ⟨rfl, hx, lfM_6 γ x j, lfM_8 γ x j, by rw [lfM_9, (lfM_off γ x j).f 2 rfl], lfM_10 γ x j, hj⟩
theorem UsM.lf {γ : GG} {x j : Nat} {us : List Nat} (h : UsM (γ 0) us) (hx : x ∈ us) : UsM (lfM γ x j 0) us := ⟨h.1, h.2.1, fun z hz => by
  by_cases e : z = x
  · subst e
    rw [lfM_6]
    exact ⟨fun q => by omega, fun q => absurd hx q⟩
  · rw [lfM_at e]
    exact h.2.2 z hz⟩
theorem UsM.nw {γ : GG} {x j : Nat} {us : List Nat} (h : UsM (γ 0) us) (hx : x < 24) (hf : γ 0 6 x = -2) : UsM (lfM γ x j 0) (x :: us) := ⟨List.nodup_cons.mpr ⟨(h.2.2 x hx).mp hf, h.1⟩, fun z hz => by
  rcases List.mem_cons.mp hz with e | e
  · rw [e]; exact hx
  · exact h.2.1 z e, fun z hz => by
  by_cases e : z = x
  · subst e
    rw [lfM_6]
    exact ⟨fun q => by omega, fun q => absurd List.mem_cons_self q⟩
  · rw [lfM_at e, h.2.2 z hz]
    simp [e]⟩
theorem UsM.free {σ : Nat → Nat → Int} {us : List Nat} (h : UsM σ us) (hl : us.length < 24) : ∃ x, x < 24 ∧ σ 6 x = -2 := by
  obtain ⟨x, h1, h2⟩ := pig 24 us h.1 hl
  exact ⟨x, h1, (h.2.2 x h1).mpr h2⟩
theorem UsM.cong {σ σ' : Nat → Nat → Int} {us : List Nat} (h : UsM σ us) (he : ∀ z, z < 24 → (σ' 6 z = -2 ↔ σ 6 z = -2)) : UsM σ' us := ⟨h.1, h.2.1, fun z hz => by rw [he z hz]; exact h.2.2 z hz⟩
theorem UsM.perm {σ : Nat → Nat → Int} {us vs : List Nat} (h : UsM σ us) (hp : us.Perm vs) : UsM σ vs := ⟨hp.nodup_iff.mp h.1, fun z hz => h.2.1 z (hp.mem_iff.mpr hz), fun z hz => by rw [h.2.2 z hz, hp.mem_iff]⟩
section M5
variable {l : Launch} {E : EE}
theorem ct_levels (hE : EOk E) (hm : 438 ≤ E.nk) (γ : GG) {x : Nat} {t : TT} {ns rest : List Nat} (hr : RepM (γ 0) t x ns) (ht : (tl t).length ≤ 12) (hu : UsM (γ 0) (ns ++ rest)) (hcap : ns.length + rest.length ≤ 23) (hst : ∀ j ∈ tl t, 0 ≤ γ 0 2 j ∧ γ 0 2 j ≤ 99) :
    Ct l yX8_levels cX8_levels 10 none E 300 24000 [.ref (E.ad 414), .int (iI (x : Int))] γ (fun v g => v = none ∧ ∃ ns', RepM (g 0) (bld (keyM (γ 0)) (tl t)) x ns' ∧ UsM (g 0) (ns' ++ rest) ∧ (∀ z ∈ rest, ∀ f, f ≤ 10 → g 0 f z = γ 0 f z) ∧ Off0 [6, 7, 8, 9, 10, 12, 13, 14, 15] γ g) 0 0 := by
  refine Ct.of hE (by decide) (Nat.le_of_ble_eq_true rfl) (fun Φ hLn hΦ F hfr hlo => ?_)
  subst hLn; subst hΦ
  have h414 := F.ok.1.2.2
  have hrc := F.rc
  have hrs := F.rs
  show Wg Φ 10 _ 0 0 0 [(0, _), (1, _)] []
  refine w_rng (fun hR => ?_)
  have hx := hr.lt
  have hnd : ns.Nodup := (List.nodup_append.mp hu.1).1
  have hpos := tl_pos t
  have hjobs := hr.jobs
  have one : ∀ (m : Nat) (S : List Nat) (y fr : Nat) (bs : List (Nat × Nat × Nat)) (us : List Nat) (g : GG) (nl : Nat), S.length = m → 0 < m → (∀ j ∈ S, j < 12 ∧ 0 ≤ γ 0 2 j ∧ γ 0 2 j ≤ 99) → RowAt (g 0 13) fr S → y ∈ us → UsM (g 0) us → us.length + 2 * (m - 1) ≤ 23 → bs.length + m ≤ 12 → fr + m ≤ 12 → g 0 2 = γ 0 2 →
      HL (g 0 12) ((bs ++ [(y, fr, fr + m)]).map fun q => (q.1 : Int)) → HL (g 0 14) ((bs ++ [(y, fr, fr + m)]).map fun q => (q.2.1 : Int)) → HL (g 0 15) ((bs ++ [(y, fr, fr + m)]).map fun q => (q.2.2 : Int)) →
      (∀ (g' : GG) (nw : List Nat), RepM (g' 0) (bld (keyM (γ 0)) S) y (y :: nw) → UsM (g' 0) (nw ++ us) → nw.length + 2 = 2 * m → (∀ z, z ∉ (y :: nw) → ∀ f, f ≤ 10 → g' 0 f z = g 0 f z) → Off0 [6, 7, 8, 9, 10, 12, 14, 15] g g' → HL (g' 0 12) (bs.map fun q => (q.1 : Int)) → HL (g' 0 14) (bs.map fun q => (q.2.1 : Int)) → HL (g' 0 15) (bs.map fun q => (q.2.2 : Int)) → Wg Φ 10 g' 0 0 34 [(0, .ref (Φ.E.ad 414)), (1, .int (iI (x : Int))), (2, .int (iI (nl : Int))), (3, .int (iI (bs.length : Int)))] []) →
      Wg Φ 10 g 0 0 34 [(0, .ref (Φ.E.ad 414)), (1, .int (iI (x : Int))), (2, .int (iI (nl : Int))), (3, .int (iI ((bs.length + 1 : Nat) : Int)))] [] := by
    intro m
    induction m using Nat.strongRecOn with
    | _ m ih =>
      intro S y fr bs us g nl hS hm0 hSj hrow hy hus hul hbl hfl h2 hw hfo hto kk
      have hy24 := hus.2.1 y hy
      rw [List.map_append] at hw hfo hto
      have w1 := hw.last
      have w2 := hfo.last
      have w3 := hto.last
      simp only [List.length_map] at w1 w2 w3
      obtain ⟨j0, hj0⟩ : ∃ j, S[0]? = some j := ⟨S[0], List.getElem?_eq_getElem (by omega)⟩
      have hj0S := List.mem_of_getElem? hj0
      have hj12 := (hSj j0 hj0S).1
      have hr0 := hrow 0 j0 hj0
      refine w_rng (fun hR => ?_)
      refine w_iload_n F dX8_levels_34 rfl ?_
      refine w_if_le F (tgt := 242) dX8_levels_35 (by decide) (by first | assumption | exact inR0 | exact (hR _ _ _).1 | (constructor <;> omega)) (fun h => ?_) (fun h => ?_)
      · omega
      · refine w_iinc F dX8_levels_38 rfl (by decide) rfl (lv' := [(0, _), (1, _), (2, _), (3, _)]) rfl ?_
        rw [show ((bs.length + 1 : Nat) : Int) + -1 = (bs.length : Int) by omega]
        refine w_aload_n F dX8_levels_41 rfl rfl ?_
        refine w_get F (by omega) cell_mdO rfl in_X8 12 (by decide) (Or.inl q884) rfl dX8_levels_42 ?_
        refine w_iload_n F dX8_levels_45 rfl ?_
        first | refine w_ialdN F (aM12 _) (by omega) (by decide) (by omega) dX8_levels_46 ?_ | refine w_iald F (aM12 _) (by omega) (by decide) (by omega) (by omega) dX8_levels_46 ?_
        refine w_top w1 ?_
        refine w_istore F dX8_levels_47 (by decide) rfl (lv' := [(0, _), (1, _), (2, _), (3, _), (4, _)]) rfl ?_
        refine w_aload_n F dX8_levels_49 rfl rfl ?_
        refine w_get F (by omega) cell_mdO rfl in_X8 14 (by decide) (Or.inl q886) rfl dX8_levels_50 ?_
        refine w_iload_n F dX8_levels_53 rfl ?_
        first | refine w_ialdN F (aM14 _) (by omega) (by decide) (by omega) dX8_levels_54 ?_ | refine w_iald F (aM14 _) (by omega) (by decide) (by omega) (by omega) dX8_levels_54 ?_
        refine w_top w2 ?_
        refine w_istore F dX8_levels_55 (by decide) rfl (lv' := [(0, _), (1, _), (2, _), (3, _), (4, _), (5, _)]) rfl ?_
        refine w_aload_n F dX8_levels_57 rfl rfl ?_
        refine w_get F (by omega) cell_mdO rfl in_X8 15 (by decide) (Or.inl q887) rfl dX8_levels_58 ?_
        refine w_iload_n F dX8_levels_61 rfl ?_
        first | refine w_ialdN F (aM15 _) (by omega) (by decide) (by omega) dX8_levels_62 ?_ | refine w_iald F (aM15 _) (by omega) (by decide) (by omega) (by omega) dX8_levels_62 ?_
        refine w_top w3 ?_
        refine w_istore F dX8_levels_63 (by decide) rfl (lv' := [(0, _), (1, _), (2, _), (3, _), (4, _), (5, _), (6, _)]) rfl ?_
        refine w_aload_n F dX8_levels_65 rfl rfl ?_
        refine w_iload F dX8_levels_66 rfl ?_
        refine w_aload_n F dX8_levels_68 rfl rfl ?_
        refine w_get F (by omega) cell_mdO rfl in_X8 13 (by decide) (Or.inl q885) rfl dX8_levels_69 ?_
        refine w_iload F dX8_levels_72 rfl ?_
        first | refine w_ialdN F (aM13 _) (by omega) (by decide) (by omega) dX8_levels_74 ?_ | refine w_iald F (aM13 _) (by omega) (by decide) (by omega) (by omega) dX8_levels_74 ?_
        refine w_top (z' := (j0 : Int)) hr0 ?_
        refine w_callV F (As := [_, _]) (ct_becomesLeaf hE hm g hy24 hj12) (lw_V q837 q839 qs37 q88 q840) md_X8_becomesLeaf (by omega) cell_mdO rfl rfl rfl rfl (Nat.le_of_ble_eq_true rfl) dX8_levels_75 ⟨by omega, by omega⟩ ⟨by omega, by omega⟩ ?_
        rintro _ _ ⟨rfl, rfl⟩
        generalize hg1 : lfM g y j0 = g1
        have o1 : Off0 [6, 7, 8, 9, 10] g g1 := by rw [← hg1]; exact lfM_off g y j0
        have u1 : UsM (g1 0) us := by rw [← hg1]; exact hus.lf hy
        have a1 : ∀ z, z ≠ y → ∀ f, g1 0 f z = g 0 f z := fun z hz f => by rw [← hg1]; exact lfM_at hz f
        refine w_rng (fun hR => ?_)
        refine w_iload F dX8_levels_78 rfl ?_
        refine w_iload F dX8_levels_80 rfl ?_
        refine w_isub F dX8_levels_82 ?_
        refine w_iconst F dX8_levels_83 ?_
        refine w_icmp_le F (tgt := 239) dX8_levels_84 (by decide) (by first | assumption | exact inR0 | exact (hR _ _ _).1 | (constructor <;> omega)) (by first | assumption | exact inR0 | exact (hR _ _ _).1 | (constructor <;> omega)) (fun h9 => ?_) (fun h9 => ?_)
        · have hm1 : m = 1 := by omega
          subst hm1
          obtain ⟨j1, rfl⟩ := List.length_eq_one_iff.mp hS
          simp at hj0
          subst hj0
          refine w_goto F (tgt := 34) dX8_levels_239 (by decide) ?_
          refine w_keep [0, 1, 2, 3] (lv' := [(0, _), (1, _), (2, _), (3, _)]) rfl ?_
          refine kk g1 [] ?_ u1 rfl (fun z hz f _ => a1 z (by simpa using hz) f) (o1.mono (by decide)) (by rw [o1.f 12 rfl]; exact hw.pre) (by rw [o1.f 14 rfl]; exact hfo.pre) (by rw [o1.f 15 rfl]; exact hto.pre)
          rw [bld_1, ← hg1]
          exact lfM_rep hy24 hj12
        · obtain ⟨p, hp⟩ : ∃ p, p = (m + 1) / 2 := ⟨_, rfl⟩
          obtain ⟨jp, hjp⟩ : ∃ j, S[p]? = some j := ⟨S[p], List.getElem?_eq_getElem (by omega)⟩
          obtain ⟨jq, hjq⟩ : ∃ j, S[p - 1]? = some j := ⟨S[p - 1], List.getElem?_eq_getElem (by omega)⟩
          have hjpS := hSj jp (List.mem_of_getElem? hjp)
          have hjqS := hSj jq (List.mem_of_getElem? hjq)
          have hrp := hrow p jp hjp
          have hrq := hrow (p - 1) jq hjq
          refine w_iload F dX8_levels_87 rfl ?_
          refine w_iload F dX8_levels_89 rfl ?_
          refine w_iload F dX8_levels_91 rfl ?_
          refine w_isub F dX8_levels_93 ?_
          refine w_iconst F dX8_levels_94 ?_
          refine w_iadd F dX8_levels_95 ?_
          refine w_iconst F dX8_levels_96 ?_
          refine w_idiv F dX8_levels_97 (by omega) (by first | assumption | exact inR0 | exact (hR _ _ _).1 | (constructor <;> omega)) (by decide) (by decide) ?_
          refine w_top (z' := (p : Int)) (by omega) ?_
          refine w_iadd F dX8_levels_98 ?_
          refine w_top (z' := ((fr + p : Nat) : Int)) (by omega) ?_
          refine w_istore F dX8_levels_99 (by decide) rfl (lv' := [(0, _), (1, _), (2, _), (3, _), (4, _), (5, _), (6, _), (7, _)]) rfl ?_
          refine w_aload_n F dX8_levels_101 rfl rfl ?_
          refine w_aload_n F dX8_levels_102 rfl rfl ?_
          refine w_get F (by omega) cell_mdO rfl in_X8 13 (by decide) (Or.inl q885) rfl dX8_levels_103 ?_
          refine w_iload F dX8_levels_106 rfl ?_
          first | refine w_ialdN F (aM13 _) (by omega) (by decide) (by omega) dX8_levels_108 ?_ | refine w_iald F (aM13 _) (by omega) (by decide) (by omega) (by omega) dX8_levels_108 ?_
          refine w_top (z' := (j0 : Int)) (by rw [o1.f 13 rfl]; exact hr0) ?_
          refine w_callV F (As := [_]) (ct_newLeaf hE hm g1 hj12 (u1.free (by omega))) (lw_V q833 q835 qs36 q88 q836) md_X8_newLeaf (by omega) cell_mdO rfl rfl rfl rfl (Nat.le_of_ble_eq_true rfl) dX8_levels_109 ⟨by omega, by omega⟩ ⟨by omega, by omega⟩ ?_
          rintro _ g2 ⟨xa, hxa, hxaf, rfl, hg2⟩
          have o2 : Off0 [6, 7, 8, 9, 10] g1 g2 := by rw [← hg2]; exact lfM_off g1 xa j0
          have u2 : UsM (g2 0) (xa :: us) := by rw [← hg2]; exact u1.nw hxa hxaf
          have a2 : ∀ z, z ≠ xa → ∀ f, g2 0 f z = g1 0 f z := fun z hz f => by rw [← hg2]; exact lfM_at hz f
          refine w_rng (fun hR => ?_)
          refine w_istore F dX8_levels_112 (by decide) rfl (lv' := [(0, _), (1, _), (2, _), (3, _), (4, _), (5, _), (6, _), (7, _), (8, _)]) rfl ?_
          refine w_aload_n F dX8_levels_114 rfl rfl ?_
          refine w_aload_n F dX8_levels_115 rfl rfl ?_
          refine w_get F (by omega) cell_mdO rfl in_X8 13 (by decide) (Or.inl q885) rfl dX8_levels_116 ?_
          refine w_iload F dX8_levels_119 rfl ?_
          first | refine w_ialdN F (aM13 _) (by omega) (by decide) (by omega) dX8_levels_121 ?_ | refine w_iald F (aM13 _) (by omega) (by decide) (by omega) (by omega) dX8_levels_121 ?_
          refine w_top (z' := (jp : Int)) (by rw [o2.f 13 rfl, o1.f 13 rfl]; exact hrp) ?_
          refine w_callV F (As := [_]) (ct_newLeaf hE hm g2 hjpS.1 (u2.free (by simp; omega))) (lw_V q833 q835 qs36 q88 q836) md_X8_newLeaf (by omega) cell_mdO rfl rfl rfl rfl (Nat.le_of_ble_eq_true rfl) dX8_levels_122 ⟨by omega, by omega⟩ ⟨by omega, by omega⟩ ?_
          rintro _ g3 ⟨xb, hxb, hxbf, rfl, hg3⟩
          have o3 : Off0 [6, 7, 8, 9, 10] g2 g3 := by rw [← hg3]; exact lfM_off g2 xb jp
          have u3 : UsM (g3 0) (xb :: xa :: us) := by rw [← hg3]; exact u2.nw hxb hxbf
          have a3 : ∀ z, z ≠ xb → ∀ f, g3 0 f z = g2 0 f z := fun z hz f => by rw [← hg3]; exact lfM_at hz f
          refine w_rng (fun hR => ?_)
          have hbs : -2147483648 ≤ γ 0 2 jq ∧ γ 0 2 jq ≤ 2147483647 := by omega
          have i13 : ∀ z, g3 0 13 z = g 0 13 z := fun z => by rw [o3.f 13 rfl, o2.f 13 rfl, o1.f 13 rfl]
          have i2 : ∀ z, g3 0 2 z = γ 0 2 z := fun z => by rw [o3.f 2 rfl, o2.f 2 rfl, o1.f 2 rfl, h2]
          have hjq0 : g 0 13 (fr + (p - 1)) = jq := hrq
          refine w_istore F dX8_levels_125 (by decide) rfl (lv' := [(0, _), (1, _), (2, _), (3, _), (4, _), (5, _), (6, _), (7, _), (8, _), (9, _)]) rfl ?_
          refine w_aload_n F dX8_levels_127 rfl rfl ?_
          refine w_get F (by omega) cell_mdO rfl in_X8 6 (by decide) (Or.inl q878) rfl dX8_levels_128 ?_
          refine w_iload F dX8_levels_131 rfl ?_
          refine w_iload F dX8_levels_133 rfl ?_
          first | refine w_iastN F (aM6 _) (by omega) (by decide) rfl rfl (by first | assumption | exact inR0 | exact (hR _ _ _).1 | (constructor <;> omega)) (by omega) dX8_levels_135 ?_ | refine w_iast F (aM6 _) (by omega) (by decide) rfl rfl (by first | assumption | exact inR0 | exact (hR _ _ _).1 | (constructor <;> omega)) (by omega) (by omega) dX8_levels_135 ?_
          refine w_aload_n F dX8_levels_136 rfl rfl ?_
          refine w_get F (by omega) cell_mdO rfl in_X8 7 (by decide) (Or.inl q879) rfl dX8_levels_137 ?_
          refine w_iload F dX8_levels_140 rfl ?_
          refine w_iload F dX8_levels_142 rfl ?_
          first | refine w_iastN F (aM7 _) (by omega) (by decide) rfl rfl (by first | assumption | exact inR0 | exact (hR _ _ _).1 | (constructor <;> omega)) (by omega) dX8_levels_144 ?_ | refine w_iast F (aM7 _) (by omega) (by decide) rfl rfl (by first | assumption | exact inR0 | exact (hR _ _ _).1 | (constructor <;> omega)) (by omega) (by omega) dX8_levels_144 ?_
          refine w_aload_n F dX8_levels_145 rfl rfl ?_
          refine w_get F (by omega) cell_mdO rfl in_X8 9 (by decide) (Or.inl q881) rfl dX8_levels_146 ?_
          refine w_iload F dX8_levels_149 rfl ?_
          refine w_aload_n F dX8_levels_151 rfl rfl ?_
          refine w_get F (by omega) cell_mdO rfl in_X8 2 (by decide) (Or.inl q874) rfl dX8_levels_152 ?_
          refine w_aload_n F dX8_levels_155 rfl rfl ?_
          refine w_get F (by omega) cell_mdO rfl in_X8 13 (by decide) (Or.inl q885) rfl dX8_levels_156 ?_
          refine w_iload F dX8_levels_159 rfl ?_
          refine w_iconst F dX8_levels_161 ?_
          refine w_isub F dX8_levels_162 ?_
          refine w_top (z' := ((fr + (p - 1) : Nat) : Int)) (by omega) ?_
          first | refine w_ialdN F (aM13 _) (by omega) (by decide) (by omega) dX8_levels_163 ?_ | refine w_iald F (aM13 _) (by omega) (by decide) (by omega) (by omega) dX8_levels_163 ?_
          refine w_top (z' := (jq : Int)) (by rw [gu_f (by decide), gu_f (by decide), i13]; exact hjq0) ?_
          first | refine w_ialdN F (aM2 _) (by omega) (by decide) (by omega) dX8_levels_164 ?_ | refine w_iald F (aM2 _) (by omega) (by decide) (by omega) (by omega) dX8_levels_164 ?_
          refine w_top (z' := γ 0 2 jq) (by rw [gu_f (by decide), gu_f (by decide)]; exact i2 jq) ?_
          first | refine w_iastN F (aM9 _) (by omega) (by decide) rfl rfl (by first | assumption | exact inR0 | exact (hR _ _ _).1 | (constructor <;> omega)) (by omega) dX8_levels_165 ?_ | refine w_iast F (aM9 _) (by omega) (by decide) rfl rfl (by first | assumption | exact inR0 | exact (hR _ _ _).1 | (constructor <;> omega)) (by omega) (by omega) dX8_levels_165 ?_
          refine w_aload_n F dX8_levels_166 rfl rfl ?_
          refine w_get F (by omega) cell_mdO rfl in_X8 10 (by decide) (Or.inl q882) rfl dX8_levels_167 ?_
          refine w_iload F dX8_levels_170 rfl ?_
          refine w_aload_n F dX8_levels_172 rfl rfl ?_
          refine w_get F (by omega) cell_mdO rfl in_X8 13 (by decide) (Or.inl q885) rfl dX8_levels_173 ?_
          refine w_iload F dX8_levels_176 rfl ?_
          refine w_iconst F dX8_levels_178 ?_
          refine w_isub F dX8_levels_179 ?_
          refine w_top (z' := ((fr + (p - 1) : Nat) : Int)) (by omega) ?_
          first | refine w_ialdN F (aM13 _) (by omega) (by decide) (by omega) dX8_levels_180 ?_ | refine w_iald F (aM13 _) (by omega) (by decide) (by omega) (by omega) dX8_levels_180 ?_
          refine w_top (z' := (jq : Int)) (by rw [gu_f (by decide), gu_f (by decide), gu_f (by decide), i13]; exact hjq0) ?_
          first | refine w_iastN F (aM10 _) (by omega) (by decide) rfl rfl (by first | assumption | exact inR0 | exact (hR _ _ _).1 | (constructor <;> omega)) (by omega) dX8_levels_181 ?_ | refine w_iast F (aM10 _) (by omega) (by decide) rfl rfl (by first | assumption | exact inR0 | exact (hR _ _ _).1 | (constructor <;> omega)) (by omega) (by omega) dX8_levels_181 ?_
          refine w_aload_n F dX8_levels_182 rfl rfl ?_
          refine w_get F (by omega) cell_mdO rfl in_X8 12 (by decide) (Or.inl q884) rfl dX8_levels_183 ?_
          refine w_iload_n F dX8_levels_186 rfl ?_
          refine w_iload F dX8_levels_187 rfl ?_
          first | refine w_iastN F (aM12 _) (by omega) (by decide) rfl rfl (by first | assumption | exact inR0 | exact (hR _ _ _).1 | (constructor <;> omega)) (by omega) dX8_levels_189 ?_ | refine w_iast F (aM12 _) (by omega) (by decide) rfl rfl (by first | assumption | exact inR0 | exact (hR _ _ _).1 | (constructor <;> omega)) (by omega) (by omega) dX8_levels_189 ?_
          refine w_aload_n F dX8_levels_190 rfl rfl ?_
          refine w_get F (by omega) cell_mdO rfl in_X8 14 (by decide) (Or.inl q886) rfl dX8_levels_191 ?_
          refine w_iload_n F dX8_levels_194 rfl ?_
          refine w_iload F dX8_levels_195 rfl ?_
          first | refine w_iastN F (aM14 _) (by omega) (by decide) rfl rfl (by first | assumption | exact inR0 | exact (hR _ _ _).1 | (constructor <;> omega)) (by omega) dX8_levels_197 ?_ | refine w_iast F (aM14 _) (by omega) (by decide) rfl rfl (by first | assumption | exact inR0 | exact (hR _ _ _).1 | (constructor <;> omega)) (by omega) (by omega) dX8_levels_197 ?_
          refine w_aload_n F dX8_levels_198 rfl rfl ?_
          refine w_get F (by omega) cell_mdO rfl in_X8 15 (by decide) (Or.inl q887) rfl dX8_levels_199 ?_
          refine w_iload_n F dX8_levels_202 rfl ?_
          refine w_iload F dX8_levels_203 rfl ?_
          first | refine w_iastN F (aM15 _) (by omega) (by decide) rfl rfl (by first | assumption | exact inR0 | exact (hR _ _ _).1 | (constructor <;> omega)) (by omega) dX8_levels_205 ?_ | refine w_iast F (aM15 _) (by omega) (by decide) rfl rfl (by first | assumption | exact inR0 | exact (hR _ _ _).1 | (constructor <;> omega)) (by omega) (by omega) dX8_levels_205 ?_
          refine w_aload_n F dX8_levels_206 rfl rfl ?_
          refine w_get F (by omega) cell_mdO rfl in_X8 12 (by decide) (Or.inl q884) rfl dX8_levels_207 ?_
          refine w_iload_n F dX8_levels_210 rfl ?_
          refine w_iconst F dX8_levels_211 ?_
          refine w_iadd F dX8_levels_212 ?_
          refine w_top (z' := ((bs.length + 1 : Nat) : Int)) rfl ?_
          refine w_iload F dX8_levels_213 rfl ?_
          first | refine w_iastN F (aM12 _) (by omega) (by decide) rfl rfl (by first | assumption | exact inR0 | exact (hR _ _ _).1 | (constructor <;> omega)) (by omega) dX8_levels_215 ?_ | refine w_iast F (aM12 _) (by omega) (by decide) rfl rfl (by first | assumption | exact inR0 | exact (hR _ _ _).1 | (constructor <;> omega)) (by omega) (by omega) dX8_levels_215 ?_
          refine w_aload_n F dX8_levels_216 rfl rfl ?_
          refine w_get F (by omega) cell_mdO rfl in_X8 14 (by decide) (Or.inl q886) rfl dX8_levels_217 ?_
          refine w_iload_n F dX8_levels_220 rfl ?_
          refine w_iconst F dX8_levels_221 ?_
          refine w_iadd F dX8_levels_222 ?_
          refine w_top (z' := ((bs.length + 1 : Nat) : Int)) rfl ?_
          refine w_iload F dX8_levels_223 rfl ?_
          first | refine w_iastN F (aM14 _) (by omega) (by decide) rfl rfl (by first | assumption | exact inR0 | exact (hR _ _ _).1 | (constructor <;> omega)) (by omega) dX8_levels_225 ?_ | refine w_iast F (aM14 _) (by omega) (by decide) rfl rfl (by first | assumption | exact inR0 | exact (hR _ _ _).1 | (constructor <;> omega)) (by omega) (by omega) dX8_levels_225 ?_
          refine w_aload_n F dX8_levels_226 rfl rfl ?_
          refine w_get F (by omega) cell_mdO rfl in_X8 15 (by decide) (Or.inl q887) rfl dX8_levels_227 ?_
          refine w_iload_n F dX8_levels_230 rfl ?_
          refine w_iconst F dX8_levels_231 ?_
          refine w_iadd F dX8_levels_232 ?_
          refine w_top (z' := ((bs.length + 1 : Nat) : Int)) rfl ?_
          refine w_iload F dX8_levels_233 rfl ?_
          first | refine w_iastN F (aM15 _) (by omega) (by decide) rfl rfl (by first | assumption | exact inR0 | exact (hR _ _ _).1 | (constructor <;> omega)) (by omega) dX8_levels_235 ?_ | refine w_iast F (aM15 _) (by omega) (by decide) rfl rfl (by first | assumption | exact inR0 | exact (hR _ _ _).1 | (constructor <;> omega)) (by omega) (by omega) dX8_levels_235 ?_
          refine w_iinc F dX8_levels_236 rfl (by decide) rfl (lv' := [(0, _), (1, _), (2, _), (3, _), (4, _), (5, _), (6, _), (7, _), (8, _), (9, _)]) rfl ?_
          refine w_goto F (tgt := 34) dX8_levels_239 (by decide) ?_
          refine w_keep [0, 1, 2, 3] (lv' := [(0, _), (1, _), (2, _), (3, _)]) rfl ?_
          rw [show (bs.length : Int) + 2 = (((bs ++ [(xa, fr, fr + p)]).length + 1 : Nat) : Int) by simp; omega]
          have nd3 := u3.1
          have hyb : y ≠ xb := fun e => by rw [e] at hy; simp [hy] at nd3
          have hya : y ≠ xa := fun e => by rw [e] at hy; simp [hy] at nd3
          have hw0 : HL (g3 0 12) (bs.map fun q => (q.1 : Int)) := by rw [o3.f 12 rfl, o2.f 12 rfl, o1.f 12 rfl]; exact hw.pre
          have hf0 : HL (g3 0 14) (bs.map fun q => (q.2.1 : Int)) := by rw [o3.f 14 rfl, o2.f 14 rfl, o1.f 14 rfl]; exact hfo.pre
          have ht0 : HL (g3 0 15) (bs.map fun q => (q.2.2 : Int)) := by rw [o3.f 15 rfl, o2.f 15 rfl, o1.f 15 rfl]; exact hto.pre
          generalize hg4 : gu (gu (gu (gu (gu (gu (gu (gu (gu (gu g3 0 6 y xa) 0 7 y xb) 0 9 y (γ 0 2 jq)) 0 10 y jq) 0 12 bs.length xa) 0 14 bs.length fr) 0 15 bs.length ((fr + p : Nat) : Int)) 0 12 (bs.length + 1) xb) 0 14 (bs.length + 1) ((fr + p : Nat) : Int)) 0 15 (bs.length + 1) ((fr + m : Nat) : Int) = g4
          have O4 : Off0 [6, 7, 9, 10, 12, 14, 15] g3 g4 := by
            rw [← hg4]
            exact (((((((((Off0.rf.up (by decide)).up (by decide)).up (by decide)).up (by decide)).up (by decide)).up (by decide)).up (by decide)).up (by decide)).up (by decide)).up (by decide)
          have p6 : g4 0 6 y = xa := by rw [← hg4]; simp [gu]
          have p7 : g4 0 7 y = xb := by rw [← hg4]; simp [gu]
          have p9 : g4 0 9 y = γ 0 2 jq := by rw [← hg4]; simp [gu]
          have p10 : g4 0 10 y = jq := by rw [← hg4]; simp [gu]
          have z4 : ∀ z, z ≠ y → ∀ f, f ≤ 10 → g4 0 f z = g3 0 f z := by
            intro z hz f hf
            rw [← hg4, gu_n (by omega), gu_n (by omega), gu_n (by omega), gu_n (by omega), gu_n (by omega), gu_n (by omega), gu_n (by omega), gu_n (by omega), gu_n (by omega), gu_n (by omega)]
          have q12 : HL (g4 0 12) (((bs ++ [(xa, fr, fr + p)]) ++ [(xb, fr + p, fr + m)]).map fun q => (q.1 : Int)) := by
            rw [← hg4, List.map_append, List.map_append]
            exact (((((((((hw0.ot (by decide)).ot (by decide)).ot (by decide)).ot (by decide)).sn (by simp)).ot (by decide)).ot (by decide)).sn (by simp)).ot (by decide)).ot (by decide)
          have q14 : HL (g4 0 14) (((bs ++ [(xa, fr, fr + p)]) ++ [(xb, fr + p, fr + m)]).map fun q => (q.2.1 : Int)) := by
            rw [← hg4, List.map_append, List.map_append]
            exact (((((((((hf0.ot (by decide)).ot (by decide)).ot (by decide)).ot (by decide)).ot (by decide)).sn (by simp)).ot (by decide)).ot (by decide)).sn (by simp)).ot (by decide)
          have q15 : HL (g4 0 15) (((bs ++ [(xa, fr, fr + p)]) ++ [(xb, fr + p, fr + m)]).map fun q => (q.2.2 : Int)) := by
            rw [← hg4, List.map_append, List.map_append]
            exact (((((((((ht0.ot (by decide)).ot (by decide)).ot (by decide)).ot (by decide)).ot (by decide)).ot (by decide)).sn (by simp)).ot (by decide)).ot (by decide)).sn (by simp)
          clear hg4
          have u4 : UsM (g4 0) (xb :: xa :: us) := by
            refine u3.cong (fun z hz => ?_)
            by_cases e : z = y
            · subst e
              rw [p6, a3 z hyb, a2 z hya, ← hg1, lfM_6]
              omega
            · rw [z4 z e 6 (by omega)]
          have j13 : ∀ z, g4 0 13 z = g 0 13 z := fun z => by rw [O4.f 13 rfl]; exact i13 z
          have j2 : g4 0 2 = γ 0 2 := by rw [O4.f 2 rfl]; funext z; exact i2 z
          have hSp : (S.take p).length = p := by simp; omega
          refine ih (m - p) (by omega) (S.drop p) xb (fr + p) (bs ++ [(xa, fr, fr + p)]) (xb :: xa :: us) g4 nl (by simp; omega) (by omega) (fun j hj => hSj j (List.mem_of_mem_drop hj)) (fun i v hi => by rw [j13]; exact hrow.drop p i v hi) (by simp) u4 (by simp; omega) (by simp; omega) (by omega) j2 (by rw [show fr + p + (m - p) = fr + m by omega]; exact q12) (by rw [show fr + p + (m - p) = fr + m by omega]; exact q14) (by rw [show fr + p + (m - p) = fr + m by omega]; exact q15) ?_
          intro g5 nwB r5 u5 l5 e5 o5 w5 f5 t5
          rw [show ((bs ++ [(xa, fr, fr + p)]).length : Int) = ((bs.length + 1 : Nat) : Int) by simp]
          have nd5 := u5.1
          refine ih p (by omega) (S.take p) xa fr bs (nwB ++ (xb :: xa :: us)) g5 nl hSp (by omega) (fun j hj => hSj j (List.mem_of_mem_take hj)) (fun i v hi => by rw [o5.f 13 rfl, j13]; exact hrow.take p i v hi) (by simp) u5 (by simp; omega) (by omega) (by omega) (by rw [o5.f 2 rfl]; exact j2) w5 f5 t5 ?_
          intro g6 nwA r6 u6 l6 e6 o6 w6 f6 t6
          have nd6 := u6.1
          have hyB : y ∉ xb :: nwB := by
            intro h8
            rcases List.mem_cons.mp h8 with e | e
            · exact hyb e
            · exact (List.nodup_append.mp nd5).2.2 y e y (by simp [hy]) rfl
          have hyA : y ∉ xa :: nwA := by
            intro h8
            rcases List.mem_cons.mp h8 with e | e
            · exact hya e
            · exact (List.nodup_append.mp nd6).2.2 y e y (by simp [hy]) rfl
          have hAB : ∀ z ∈ xb :: nwB, z ∉ xa :: nwA := by
            intro z hz h8
            rcases List.mem_cons.mp h8 with e | e
            · subst e
              rcases List.mem_cons.mp hz with e2 | e2
              · simp [e2] at nd3
              · exact (List.nodup_append.mp nd5).2.2 z e2 z (by simp) rfl
            · refine (List.nodup_append.mp nd6).2.2 z e z ?_ rfl
              rcases List.mem_cons.mp hz with e2 | e2
              · simp [e2]
              · simp [e2]
          have r56 : RepM (g6 0) (bld (keyM (γ 0)) (S.drop p)) xb (xb :: nwB) := by
            refine r5.cong (fun z hz => ?_) (fun j hj => by rw [o6.f 2 rfl])
            have := e6 z (hAB z hz)
            exact ⟨this 6 (by omega), this 7 (by omega), this 8 (by omega), this 9 (by omega), this 10 (by omega)⟩
          have hyy : ∀ f, f ≤ 10 → g6 0 f y = g4 0 f y := fun f hf => by rw [e6 y hyA f hf, e5 y hyB f hf]
          refine kk g6 ((xa :: nwA) ++ (xb :: nwB)) ?_ ?_ (by simp; omega) ?_ ?_ w6 f6 t6
          · rw [bld_2 _ (by omega), hS, ← hp]
            have hjq2 : S.getD (p - 1) 0 = jq := by rw [List.getD_eq_getElem?_getD, hjq]; rfl
            rw [hjq2]
            refine ⟨xa, xb, xa :: nwA, xb :: nwB, rfl, hy24, by rw [hyy 6 (by omega)]; exact p6, by rw [hyy 7 (by omega)]; exact p7, r6, r56, ?_, ?_, ?_, ?_, ?_⟩
            · rw [hyy 9 (by omega), hyy 10 (by omega), p9, p10]
              unfold keyM
              omega
            · rw [hyy 10 (by omega), p10]; omega
            · rw [hyy 10 (by omega), p10]; omega
            · rw [hyy 9 (by omega), p9]; omega
            · rw [hyy 9 (by omega), p9]; omega
          · refine u6.perm ?_
            rw [List.perm_iff_count]
            intro a
            simp [List.count_cons]
            omega
          · intro z hz f hf
            simp at hz
            have h1 : z ∉ xa :: nwA := by simp [hz]
            have h2' : z ∉ xb :: nwB := by simp [hz]
            rw [e6 z h1 f hf, e5 z h2' f hf, z4 z hz.1 f hf, a3 z (by simp at h2'; exact h2'.1) f, a2 z (by simp at h1; exact h1.1) f, a1 z hz.1 f]
          · exact ((((((o1.mono (by decide)).tr (o2.mono (by decide))).tr (o3.mono (by decide))).tr (O4.mono (by decide))).tr o5).tr o6)
  refine w_aload_n F dX8_levels_0 rfl rfl ?_
  refine w_iload_n F dX8_levels_1 rfl ?_
  refine w_callV F (As := [_]) (ct_leaves hE hm γ hr ht) (lw_V q860 q862 qs42 q88 q863) md_X8_leaves (by omega) cell_mdO rfl rfl rfl rfl (Nat.le_of_ble_eq_true rfl) dX8_levels_2 ⟨by omega, by omega⟩ ⟨by omega, by omega⟩ ?_
  rintro _ g1 ⟨rfl, hrow, o1⟩
  have r1 : RepM (g1 0) t x ns := hr.off o1 rfl
  refine w_istore_n F dX8_levels_5 (by decide) rfl (lv' := [(0, _), (1, _), (2, _)]) rfl ?_
  refine w_aload_n F dX8_levels_6 rfl rfl ?_
  refine w_iload_n F dX8_levels_7 rfl ?_
  refine w_callV F (As := [_]) (ct_frees hE hm g1 r1 ht hnd) (lw_V q868 q870 qs44 q88 q871) md_X8_frees (by omega) cell_mdO rfl rfl rfl rfl (Nat.le_of_ble_eq_true rfl) dX8_levels_8 ⟨by omega, by omega⟩ ⟨by omega, by omega⟩ ?_
  rintro _ g2 ⟨rfl, h6, o2⟩
  refine w_rng (fun hR => ?_)
  refine w_iconst F dX8_levels_11 ?_
  refine w_istore_n F dX8_levels_12 (by decide) rfl (lv' := [(0, _), (1, _), (2, _), (3, _)]) rfl ?_
  refine w_aload_n F dX8_levels_13 rfl rfl ?_
  refine w_get F (by omega) cell_mdO rfl in_X8 12 (by decide) (Or.inl q884) rfl dX8_levels_14 ?_
  refine w_iconst F dX8_levels_17 ?_
  refine w_iload_n F dX8_levels_18 rfl ?_
  first | refine w_iastN F (aM12 _) (by omega) (by decide) rfl rfl (by first | assumption | exact inR0 | exact (hR _ _ _).1 | (constructor <;> omega)) (by omega) dX8_levels_19 ?_ | refine w_iast F (aM12 _) (by omega) (by decide) rfl rfl (by first | assumption | exact inR0 | exact (hR _ _ _).1 | (constructor <;> omega)) (by omega) (by omega) dX8_levels_19 ?_
  refine w_aload_n F dX8_levels_20 rfl rfl ?_
  refine w_get F (by omega) cell_mdO rfl in_X8 14 (by decide) (Or.inl q886) rfl dX8_levels_21 ?_
  refine w_iconst F dX8_levels_24 ?_
  refine w_iconst F dX8_levels_25 ?_
  first | refine w_iastN F (aM14 _) (by omega) (by decide) rfl rfl (by first | assumption | exact inR0 | exact (hR _ _ _).1 | (constructor <;> omega)) (by omega) dX8_levels_26 ?_ | refine w_iast F (aM14 _) (by omega) (by decide) rfl rfl (by first | assumption | exact inR0 | exact (hR _ _ _).1 | (constructor <;> omega)) (by omega) (by omega) dX8_levels_26 ?_
  refine w_aload_n F dX8_levels_27 rfl rfl ?_
  refine w_get F (by omega) cell_mdO rfl in_X8 15 (by decide) (Or.inl q887) rfl dX8_levels_28 ?_
  refine w_iconst F dX8_levels_31 ?_
  refine w_iload_n F dX8_levels_32 rfl ?_
  first | refine w_iastN F (aM15 _) (by omega) (by decide) rfl rfl (by first | assumption | exact inR0 | exact (hR _ _ _).1 | (constructor <;> omega)) (by omega) dX8_levels_33 ?_ | refine w_iast F (aM15 _) (by omega) (by decide) rfl rfl (by first | assumption | exact inR0 | exact (hR _ _ _).1 | (constructor <;> omega)) (by omega) (by omega) dX8_levels_33 ?_
  obtain ⟨rr, hrr⟩ := hr.hd
  have hxr : x ∉ rr := by rw [hrr] at hnd; simp at hnd; exact hnd.1
  refine one (tl t).length (tl t) x 0 [] (x :: rest) _ (tl t).length rfl hpos (fun j hj => ⟨hjobs j hj, hst j hj⟩) ?_ (by simp) ?_ ?_ (by simpa using ht) (by omega) ?_ ?_ ?_ ?_ ?_
  · intro i v hi
    rw [gu_f (by decide), gu_f (by decide), gu_f (by decide), o2.f 13 rfl, Nat.zero_add]
    exact hrow i v (by simp [hi])
  · have hu2 := hu
    rw [hrr] at hu2
    refine ⟨?_, ?_, ?_⟩
    · have := hu2.1
      simp at this ⊢
      grind
    · intro z hz
      exact hu2.2.1 z (by simp at hz ⊢; grind)
    · intro z hz
      rw [gu_f (by decide), gu_f (by decide), gu_f (by decide), h6 z, o1.f 6 rfl]
      have := hu2.2.2 z hz
      have nd2 := hu2.1
      rw [hrr]
      simp at this nd2 ⊢
      by_cases e : z ∈ rr
      · simp [e]
        grind
      · simp [e]
        rw [this]
        simp [e]
  · have := nn_tl t
    have := hr.len
    simp
    omega
  · rw [gu_f (by decide), gu_f (by decide), gu_f (by decide), o2.f 2 rfl, o1.f 2 rfl]
  · exact ((HL.sn (L := []) (HL.nil _) rfl).ot (by decide)).ot (by decide)
  · exact ((HL.sn (L := []) (HL.nil _) rfl).ot (by decide))
  · rw [Nat.zero_add]
    exact (HL.sn (L := []) (HL.nil _) rfl)
  · intro g' nw hrep hus hnl hz ho _ _ _
    refine w_iload_n F dX8_levels_34 rfl ?_
    refine w_if_le F (tgt := 242) dX8_levels_35 (by decide) (by first | assumption | exact inR0 | exact (hR _ _ _).1 | (constructor <;> omega)) (fun h9 => ?_) (fun h9 => ?_)
    · skip
      have hr9 : ∀ z ∈ rest, z ∉ x :: nw := by
        intro z hz2 h8
        have nd := hus.1
        rcases List.mem_cons.mp h8 with e | e
        · subst e
          have := hu.1
          rw [hrr] at this
          simp at this
          grind
        · exact (List.nodup_append.mp nd).2.2 z e z (by simp [hz2]) rfl
      have hr8 : ∀ z ∈ rest, z ∉ ns.tail := by
        intro z hz2 h8
        have := hu.1
        exact (List.nodup_append.mp this).2.2 z (List.mem_of_mem_tail h8) z hz2 rfl
      exact w_vret F (by omega) (by omega) (⟨rfl, x :: nw, hrep, hus.perm (by rw [List.perm_iff_count]; intro a; simp [List.count_cons]; omega), fun z hz2 f hf => by rw [hz z (hr9 z hz2) f hf, gu_n (by omega), gu_n (by omega), gu_n (by omega)]; by_cases e : f = 6; (subst e; rw [h6 z, if_neg (hr8 z hz2), o1.f 6 rfl]); rw [o2 0 f (by simp; omega), o1 0 f (by simp; omega)], (((((o1.mono (by decide)).tr (o2.mono (by decide))).up (by decide)).up (by decide)).up (by decide)).tr (ho.mono (by decide))⟩) dX8_levels_242
    · simp at h9
end M5
