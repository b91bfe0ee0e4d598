/-! State: cut -/
section S13
variable {l : Launch} {E : EE}
theorem ct_cutS (hE : EOk E) (hA : AhOk l E) (hH : HoOk l E) (γ : GG) {k : Nat} (hk : k < 13) {v : VV} (hv : SV (γ (2 + k)) v) (hV : VOk v) {j : Nat} (hj : v.1.testBit j = true) (h2l : 2 ≤ (tl v.2.2).length) : Ct l yX1_cut cX1_cut 7 (some .int) E 900 48000 [.ref (E.ad (11 + 31 * k)), .int (iI (j : Int))] γ (fun r g => r = some (.int (iI ((cutT (keyT v.2.1) (keyT v.2.1 j) v.2.2).2 : Int))) ∧ SV (g (2 + k)) (cutV v j) ∧ OnlyS k γ g) 2 32 := by
  refine Ct.of hE (by decide) (Nat.le_of_ble_eq_true rfl) (fun Φ hLn hΦ F hfr hlo => ?_)
  subst hLn; subst hΦ
  have h414 := F.ok.1.2.2
  have hrc := F.rc
  have hrs := F.rs
  show Wg Φ 7 _ 0 0 0 [(0, _), (1, _)] []
  refine w_rng (fun hR => ?_)
  have hJ := hv.jt hV
  have hVc := VOk.cut hV hj h2l
  obtain ⟨b, T, t⟩ := v
  obtain ⟨v1, ⟨x, ns, hroot, hr0, hnd, hU⟩, v3⟩ := id hv
  dsimp only at *
  unfold cutV at F hVc
  dsimp only at F hVc
  have hjt := (hV.2.1.1 j).mpr hj
  have hb2 : b < 4096 := hV.1.1
  have j1 := (hJ j hjt).1
  have hjt2 := (hJ j hjt).2.2.2.1
  have hx := hr0.lt
  obtain ⟨K, hK⟩ : ∃ q, q = keyT T j := ⟨_, rfl⟩
  rw [← hK] at F hVc
  have hOt : OrdT (keyT T) t := hV.2.2
  have hNt : (tl t).Nodup := hV.2.1.2
  have hLt : isL t = false := by
    cases ht : t with
    | leaf q => rw [ht] at h2l; simp [tl] at h2l
    | branch _ _ _ => rfl
  have huq : ∀ i ∈ tl t, keyT T i = keyT T j → i = j := fun i hi e => key_inj (hJ i hi).1 j1 (hJ i hi).2.2.2.1.1 hjt2.1 e
  have hD := del_ord (κ := keyT T) (j := j) hOt hLt hjt huq
  rw [← hK] at hD
  have hDn := (ord_srt hD.1).nd
  obtain ⟨S0, hS0⟩ : ∃ q, q = wo (fun _ => true) (j : Int) := ⟨_, rfl⟩
  have hS0j : S0 j = false := by rw [hS0]; unfold wo; simp
  refine w_aload_n F dX1_cut_0 rfl rfl ?_
  refine w_iload_n F dX1_cut_1 rfl ?_
  refine w_callV F (As := [_]) (ct_vacate hE hA hH γ hk hroot hr0 hnd hOt hNt hJ hjt rfl) (lw_V q666 q668 qs20 q71 q669) md_X1_vacate (by omega) (cell_stO (by omega)) rfl rfl rfl rfl (Nat.le_of_ble_eq_true rfl) dX1_cut_2 ⟨by omega, by omega⟩ ⟨by omega, by omega⟩ ?_
  rintro _ g1 ⟨rfl, r1, o1⟩
  rw [← hS0] at r1
  have hU1 : UsC (g1 (2 + k)) ns := hU.cg (o1.s (by omega)) hnd (fun _ => Iff.rfl)
  have hroot1 : g1 (2 + k) 2 0 = (x : Int) := by rw [o1.s (by omega)]; exact hroot
  have hJ1 : ∀ i ∈ tl t, JC T (g1 (2 + k)) i := fun i hi => (hJ i hi).off o1 (fun f z w => by omega)
  have hb1 : g1 (2 + k) 0 0 = (b : Int) := by rw [o1.s (by omega)]; exact v1
  have hxl : (b ^^^ (b &&& 2 ^ j)) < 4096 := xor_lt hb2
  have fin127 : ∀ (G : GG) (x' xs : Nat) (w : TT) (nw pre post' : List Nat) (Kl : Nat), delT K t = w ∨ True → G (2 + k) 2 0 = (x' : Int) → RC T (G (2 + k)) (delT K t) x' S0 (pre ++ nw ++ post') → (pre ++ nw ++ post').Nodup → UsC (G (2 + k)) (pre ++ nw ++ post') → xs < 23 → ((Kl : Int) = 16 * G (2 + k) 23 xs + G (2 + k) 24 xs ∧ (0 ≤ G (2 + k) 24 xs ∧ G (2 + k) 24 xs < 12) ∧ 0 ≤ G (2 + k) 23 xs ∧ G (2 + k) 23 xs ≤ 99) → LastAt (G (2 + k)) K Kl t x' xs → (∀ i ∈ tl t, JC T (G (2 + k)) i) → G (2 + k) 0 0 = ((b ^^^ (b &&& 2 ^ j) : Nat) : Int) → OnlyS k γ G → Wg Φ 7 G 2 32 127 [(0, .ref (Φ.E.ad (11 + 31 * k))), (5, .ref (Φ.E.ad (19 + 31 * k + xs)))] [] := by
    intro G x' xs w nw pre post' Kl _ c1 c2 c3 c4 c5 c6 c7 c8 c9 c10
    refine w_aload_n F dX1_cut_127 rfl rfl ?_
    refine w_aload F dX1_cut_128 rfl rfl ?_
    refine w_callV F (As := [_]) (ct_levelAbove hE hA G hk c1 c2 c3 c4 hD.1 hDn (fun i hi => c8 i ((hD.2.1 i).mp hi).1) c5 c6 c7) (lw_V q681 q683 qs23 q71 q684) md_X1_levelAbove (by omega) (cell_stO (by omega)) rfl rfl rfl rfl (Nat.le_of_ble_eq_true rfl) dX1_cut_130 ⟨by omega, by omega⟩ ⟨by omega, by omega⟩ ?_
    rintro _ g9 ⟨rfl, s9, o9⟩
    obtain ⟨x9, ns9, q1, q2, q3, q4⟩ := s9
    have hfin : SV (g9 (2 + k)) (b ^^^ (b &&& 2 ^ j), T, (cutT (keyT T) K t).1) := by
      refine ⟨by rw [o9.s (by unfold offW; omega)]; exact c9, ⟨x9, ns9, q1, ?_, q3, q4⟩, fun i hi => ?_⟩
      · refine q2.cgS (fun i hi => ⟨?_, rfl, fun _ => rfl⟩)
        have hib := (hVc.2.1.1 i).mp hi
        have hib' : (b ^^^ (b &&& 2 ^ j)).testBit i = true := hib
        rw [xor_bit] at hib'
        simp at hib'
        rw [hS0, wo_oth (by have := hib'.2; omega)]
      · have hib' : (b ^^^ (b &&& 2 ^ j)).testBit i = true := hi
        rw [xor_bit] at hib'
        simp at hib'
        exact ((c8 i ((hV.2.1.1 i).mpr hib'.1)).ofW o9).2.1
    exact w_iret F (by omega) (by omega) (⟨rfl, hfin, c10.tr o9.only⟩) dX1_cut_133
  have fin73 : ∀ (g g2 : GG) (u w : TT) (y c xs : Nat) (S' : Nat → Bool) (nu nw : List Nat) (C : TT → TT) (pre post' : List Nat) (pa : Option (Nat × Bool)) (h : Int), Foc T (g (2 + k)) (-1) x S0 C pre post' pa u y S' nu → KLc T (g (2 + k)) K t x pre post' pa u → ns = pre ++ nu ++ post' → C w = delT K t → OffS k (fun f _ => f = 26) g1 g → OffS k (fun f i => f = 26 ∧ i = y) g g2 → (∀ z, z ∈ nu ↔ z = y ∨ z = c ∨ z ∈ nw) → y ≠ c → y ∉ nw → c ∉ nw → c < 23 → RC T (g (2 + k)) w xs (wo S' h) nw → nw.Nodup → h = bst (rkT T) S' (tl u) → g (2 + k) 25 y = h → (∀ i, i ∈ tl u ↔ i = j ∨ i ∈ tl w) → (tl u).length = (tl w).length + 1 → (∀ σ' Kl, LastAt σ' K Kl u xs xs) → (∀ i ∈ tl u, i ∈ tl t) → OrdT (keyT T) w → (tl w).Nodup → (sp u ⊆ sp u ∧ ∀ q ∈ sp w, q ∈ sp u) → Wg Φ 7 g2 2 32 73 [(0, .ref (Φ.E.ad (11 + 31 * k))), (1, .int (iI (j : Int))), (2, va_rf (onode Φ.E.ad k (pz pa))), (3, .ref (Φ.E.ad (19 + 31 * k + y))), (4, .ref (Φ.E.ad (19 + 31 * k + c))), (5, .ref (Φ.E.ad (19 + 31 * k + xs)))] [] := by
    intro g g2 u w y c xs S' nu nw C pre post' pa h d1 d2 d3 d4 d5 d6 d7 d8 d9 d10 d11 d12 d13 d14 d15 d16 d17 d18 d19 d20 d21 d22
    have hy := d1.1.lt
    have hxs := d12.lt
    have hnd2 := d1.2.1
    have hpp : ∀ z, z ∈ pre ++ post' → z ∈ ns ∧ z ∉ nu := fun z hz => by
      rw [List.nodup_append] at hnd2
      obtain ⟨n1, n2, n3⟩ := hnd2
      rw [List.nodup_append] at n1
      rcases List.mem_append.mp hz with q | q
      · exact ⟨by rw [d3]; exact List.mem_append_left _ (List.mem_append_left _ q), fun w => n1.2.2 z q z w rfl⟩
      · exact ⟨by rw [d3]; exact List.mem_append_right _ q, fun w => n3 z (List.mem_append_right _ w) z q rfl⟩
    have hnwd : (pre ++ nw ++ post').Nodup := by
      rw [List.nodup_append] at hnd2
      obtain ⟨n1, n2, n3⟩ := hnd2
      rw [List.nodup_append] at n1
      refine List.nodup_append.mpr ⟨List.nodup_append.mpr ⟨n1.1, d13, fun a ha b hb e => n1.2.2 a ha b ((d7 b).mpr (Or.inr (Or.inr hb))) e⟩, n2, fun a ha b hb e => ?_⟩
      rcases List.mem_append.mp ha with q | q
      · exact n3 a (List.mem_append_left _ q) b hb e
      · exact n3 a (List.mem_append_right _ ((d7 a).mpr (Or.inr (Or.inr q)))) b hb e
    have hS'j : S' j = false := by
      cases hs : S' j with
      | false => rfl
      | true => rw [d1.2.2.2.2.1 j hs] at hS0j; cases hS0j
    have hpw : 2 ^ j < 4096 := Nat.pow_lt_pow_right (n := 12) (by decide) j1
    have hhr : -4 ≤ h ∧ h < 12 := by
      rcases (d14 ▸ bst_spec (rkT T) S' (tl u)).in with q | ⟨i, q, q1⟩
      · omega
      · have := (hJ1 i (d19 i q1.1)).1; omega
    have ro := rpl_off g2 k pa xs
    obtain ⟨g3, hg3⟩ : ∃ z, z = rpl g2 k pa xs := ⟨_, rfl⟩
    rw [← hg3] at ro
    have hp23 : ∀ p d, pa = some (p, d) → p < 23 ∧ p ∈ pre := fun p d e => ⟨hU.lt p (by rw [d3]; exact List.mem_append_left _ (List.mem_append_left _ (d1.2.2.2.2.2.2 p d e))), d1.2.2.2.2.2.2 p d e⟩
    have h31 : g3 (2 + k) 1 0 = g1 (2 + k) 1 0 := by rw [ro.s (by omega), d6.s (by omega), d5.s (by omega)]
    have fin87 : Wg Φ 7 g3 2 32 87 [(0, .ref (Φ.E.ad (11 + 31 * k))), (1, .int (iI (j : Int))), (3, .ref (Φ.E.ad (19 + 31 * k + y))), (4, .ref (Φ.E.ad (19 + 31 * k + c))), (5, .ref (Φ.E.ad (19 + 31 * k + xs))), (6, .int (iI h))] [] := by
      have hU3 : UsC (g3 (2 + k)) ns := hU1.cg h31 hnd (fun _ => Iff.rfl)
      obtain ⟨b3, u1, u2, u3, u4⟩ := id hU3
      refine w_aload_n F dX1_cut_87 rfl rfl ?_
      refine w_aload F dX1_cut_88 rfl rfl ?_
      refine w_callV F (As := [_]) (ct_release hE g3 hk d11 u1) (lw_V q516 q518 qs14 q71 q519) md_X1_release (by omega) (cell_stO (by omega)) rfl rfl rfl rfl (Nat.le_of_ble_eq_true rfl) dX1_cut_90 ⟨by omega, by omega⟩ ⟨by omega, by omega⟩ ?_
      rintro _ g4 ⟨rfl, hg4⟩
      have hU4 : UsC (g4 (2 + k)) (rmv ns [c]) := hU3.give u1 (by rw [hg4]; exact gu_s _ _ _ _ _) (rmv_nd hnd) (fun z => by rw [rmv_mem]; simp)
      obtain ⟨b4, w1, w2, w3, w4⟩ := id hU4
      refine w_aload_n F dX1_cut_93 rfl rfl ?_
      refine w_aload_n F dX1_cut_94 rfl rfl ?_
      refine w_callV F (As := [_]) (ct_release hE g4 hk hy w1) (lw_V q516 q518 qs14 q71 q519) md_X1_release (by omega) (cell_stO (by omega)) rfl rfl rfl rfl (Nat.le_of_ble_eq_true rfl) dX1_cut_95 ⟨by omega, by omega⟩ ⟨by omega, by omega⟩ ?_
      rintro _ g5 ⟨rfl, hg5⟩
      have hU5 : UsC (g5 (2 + k)) (pre ++ nw ++ post') := hU4.give w1 (by rw [hg5]; exact gu_s _ _ _ _ _) hnwd (fun z => by
        rw [rmv_mem, d3]
        simp only [List.mem_append, List.mem_singleton]
        have q7 := d7 z
        constructor
        · rintro ((q | q) | q)
          · have := (hpp z (List.mem_append_left _ q)).2
            exact ⟨⟨Or.inl (Or.inl q), fun e => this (q7.mpr (Or.inr (Or.inl e)))⟩, fun e => this (q7.mpr (Or.inl e))⟩
          · exact ⟨⟨Or.inl (Or.inr (q7.mpr (Or.inr (Or.inr q)))), fun e => d10 (e ▸ q)⟩, fun e => d9 (e ▸ q)⟩
          · have := (hpp z (List.mem_append_right _ q)).2
            exact ⟨⟨Or.inr q, fun e => this (q7.mpr (Or.inr (Or.inl e)))⟩, fun e => this (q7.mpr (Or.inl e))⟩
        · rintro ⟨⟨(q | q) | q, q1⟩, q2⟩
          · exact Or.inl (Or.inl q)
          · rcases q7.mp q with e | e | e
            · exact absurd e q2
            · exact absurd e q1
            · exact Or.inl (Or.inr e)
          · exact Or.inr q)
      have o5 : OffS k (fun f _ => f = 1) g3 g5 := by rw [hg5, hg4]; exact (OffS.up (P := fun f _ => f = 1) OffS.rf rfl).up rfl
      have hb5 : g5 (2 + k) 0 0 = (b : Int) := by rw [o5.s (by omega), ro.s (by omega), d6.s (by omega), d5.s (by omega)]; exact hb1
      refine w_aload_n F dX1_cut_98 rfl rfl ?_
      refine w_dup F dX1_cut_99 rfl ?_
      refine w_getF F (fS0 _ (by omega)) (by omega) rfl in_X1 (by decide) (Or.inl q148) dX1_cut_100 ?_
      refine w_top hb5 ?_
      refine w_iconst F dX1_cut_103 ?_
      refine w_iload_n F dX1_cut_104 rfl ?_
      refine w_ishl1 F (by omega) dX1_cut_105 ?_
      refine w_iconst F dX1_cut_106 ?_
      refine w_inot F dX1_cut_107 ?_
      first | refine w_iandC F (by omega) dX1_cut_108 ?_ | refine w_iand F dX1_cut_108 ?_
      refine w_putF F (fS0 _ (by omega)) (by omega) rfl in_X1 tyX1 tyX1_ok nmX1 (by decide) (Or.inl q148) rfl rfl rfl (by first | assumption | exact inR0 | exact (hR _ _ _).1 | (constructor <;> omega)) (noB rfl) (noP rfl) dX1_cut_109 ?_
      obtain ⟨g6, hg6⟩ : ∃ z, z = gu g5 (2 + k) 0 0 ((b ^^^ (b &&& 2 ^ j) : Nat) : Int) := ⟨_, rfl⟩
      rw [← hg6]
      have o6 : OffS k (fun f _ => f = 0 ∨ f = 1) g3 g6 := by rw [hg6]; exact (o5.mono (fun f i q => Or.inr q)).up (Or.inl rfl)
      have hpn : ∀ p d, pa = some (p, d) → p ∉ nw := fun p d e q => (hpp p (List.mem_append_left _ (hp23 p d e).2)).2 ((d7 p).mpr (Or.inr (Or.inr q)))
      have r6 : RC T (g6 (2 + k)) w xs (wo S' h) nw := d12.cg (fun z hz f q1 q2 => by
        rw [o6.s (by omega), ro.s (fun q => by rcases q with q | q | q; omega; exact hpn z true q.2 hz; exact hpn z false q.2 hz), d6.s (fun q => d9 (q.2 ▸ hz))])
      have hJ6 : ∀ i ∈ tl t, JC T (g6 (2 + k)) i := fun i hi => ((((hJ1 i hi).off d5 (fun f z w => by omega)).off d6 (fun f z w => by omega)).off ro (fun f z w => by omega)).off o6 (fun f z w => by omega)
      have hwt : ∀ i ∈ tl w, i ∈ tl t := fun i hi => d19 i ((d16 i).mpr (Or.inr hi))
      have fin : ∀ G : GG, RC T (G (2 + k)) w xs S' nw → OffS k (fun f i => f = 25 ∧ i ∈ nw) g6 G → Wg Φ 7 G 2 32 127 [(0, .ref (Φ.E.ad (11 + 31 * k))), (5, .ref (Φ.E.ad (19 + 31 * k + xs)))] [] := by
        intro G rG oG
        have hsm : ∀ z ∈ pre ++ post', SmP pa xs (g (2 + k)) (G (2 + k)) z := fun z hz f q1 q2 => by
          have hzn := (hpp z hz).2
          rw [oG.s (fun q => hzn ((d7 z).mpr (Or.inr (Or.inr q.2)))), o6.s (by omega), hg3, rpl_n g2 k pa xs f z q1, d6.s (fun q => hzn ((d7 z).mpr (Or.inl q.2)))]
        have hRC := d1.2.2.2.2.2.1 (G (2 + k)) w xs nw hsm (by rw [d17]; omega) (fun i hi => by
          rw [d16 i]
          constructor
          · exact Or.inr
          · rintro (e | e)
            · rw [e, hS0j] at hi; cases hi
            · exact e) rG
        rw [d4] at hRC
        obtain ⟨Kl, k1, k2⟩ := rG.key (fun i hi => ⟨(hJ1 i (hwt i hi)).1, (hJ1 i (hwt i hi)).2.2.2.1⟩)
        have hLA := d2 (G (2 + k)) xs xs Kl hsm (fun q => (hpp xs q).2 ((d7 xs).mpr (Or.inr (Or.inr d12.me)))) (by
          rcases k2 with q | ⟨i, q, q2⟩
          · exact Or.inl (d22.2 _ q)
          · exact Or.inr ⟨i, (d16 i).mpr (Or.inr q), q2⟩) (d18 _ _)
        refine fin127 G _ xs w nw pre post' Kl (Or.inr trivial) ?_ hRC hnwd (hU5.cg (by rw [oG.s (by omega), hg6, gu_f (by decide)]) hnwd (fun _ => Iff.rfl)) hxs k1 hLA (fun i hi => (hJ6 i hi).off oG (fun f z w => by omega)) (by rw [oG.s (by omega), hg6]; exact gu_s _ _ _ _ _) ?_
        · rw [oG.s (by omega), o6.s (by omega), hg3, rpl_root, d6.s (by omega), d5.s (by omega), hroot1]
          split <;> rfl
        · exact ((((o1.only.tr d5.only).tr d6.only).tr ro.only).tr o6.only).tr oG.only
      refine w_iload F dX1_cut_112 rfl ?_
      refine w_bipush F dX1_cut_114 rfl ?_
      refine w_icmp_eq F (tgt := 127) dX1_cut_116 (by decide) (by first | assumption | exact inR0 | exact (hR _ _ _).1 | (constructor <;> omega)) (by first | assumption | exact inR0 | exact (hR _ _ _).1 | (constructor <;> omega)) (fun h9 => ?_) (fun h9 => ?_)
      · refine w_keep [0, 5] (lv' := [(0, _), (5, _)]) rfl ?_
        rw [h9, wo_n] at r6
        exact fin g6 r6 OffS.rf
      · obtain ⟨i, e1, e2, e3⟩ := bst_nat (R := rkT T) (S := S') (L := tl u) (by rw [← d14]; exact h9)
        have ehi : h = (i : Int) := by rw [d14]; exact e1
        have hij : i ≠ j := fun e => by rw [e, hS'j] at e3; cases e3
        have hiw : i ∈ tl w := by
          rcases (d16 i).mp e2 with q | q
          · exact absurd q hij
          · exact q
        have hnn := nn_23 r6 d13
        rw [ehi] at r6
        refine w_aload_n F dX1_cut_119 rfl rfl ?_
        refine w_aload F dX1_cut_120 rfl rfl ?_
        refine w_iload F dX1_cut_122 rfl ?_
        refine w_top ehi ?_
        refine w_callV F (As := [_, _]) (ct_push hE hA hk w xs _ nw i g6 r6 d13 d20 d21 (fun q hq => hJ6 q (hwt q hq)) hiw (by unfold wo; simp)) (lw_V q439 q441 qs10 q71 q442) md_X1_push (by omega) (cell_stO (by omega)) rfl rfl rfl rfl (Nat.le_of_ble_eq_true rfl) dX1_cut_124 ⟨by omega, by omega⟩ ⟨by omega, by omega⟩ ?_
        rintro _ g7 ⟨rfl, r7, o7⟩
        have hSS : ad1 (wo S' (i : Int)) i = S' := by
          funext q
          unfold ad1
          by_cases e : q = i
          · subst e; simp [e3]
          · rw [wo_oth (by omega)]; simp [e]
        rw [hSS] at r7
        refine w_keep [0, 5] (lv' := [(0, _), (5, _)]) rfl ?_
        exact fin g7 r7 o7
    refine w_aload_n F dX1_cut_73 rfl rfl ?_
    refine w_getF F (fN5 _ (by omega) (by omega)) (by omega) rfl in_X2 (by decide) (Or.inr q128) dX1_cut_74 ?_
    refine w_top (z' := h) (by rw [d6.s (by omega)]; exact d15) ?_
    rcases pa with _ | ⟨p, d⟩
    · skip
      refine w_istore F dX1_cut_77 (by decide) rfl (lv' := [(0, _), (1, _), (2, _), (3, _), (4, _), (5, _), (6, _)]) rfl ?_
      refine w_aload_n F dX1_cut_79 rfl rfl ?_
      refine w_aload_n F dX1_cut_80 rfl (by first | rfl | exact rf_isRef _) ?_
      refine w_toNull (by show (-1 : Int) < 0; decide) ?_
      refine w_aload_n F dX1_cut_81 rfl rfl ?_
      refine w_aload F dX1_cut_82 rfl rfl ?_
      refine w_callV F (As := [_, _, _]) (ct_replace0 hE g2 hk hy hxs) (lw_V q524 q526 qs16 q71 q527) md_X1_replace (by omega) (cell_stO (by omega)) rfl rfl rfl rfl (Nat.le_of_ble_eq_true rfl) dX1_cut_84 ⟨by omega, by omega⟩ ⟨by omega, by omega⟩ ?_
      rintro _ _ ⟨rfl, rfl⟩
      rw [← hg3]
      refine w_keep [0, 1, 3, 4, 5, 6] (lv' := [(0, _), (1, _), (3, _), (4, _), (5, _), (6, _)]) rfl ?_
      exact fin87
    · obtain ⟨p1, p2⟩ := hp23 p d rfl
      have hpy : p ≠ y := fun e => (hpp p (List.mem_append_left _ p2)).2 ((d7 p).mpr (Or.inl e))
      have hpa2 : PaOk (g2 (2 + k)) (some (p, d)) y := by
        have h0 := d1.2.2.1
        cases d with
        | true => show g2 (2 + k) 21 p = _; rw [d6.s (by omega)]; exact h0
        | false => show g2 (2 + k) 22 p = _ ∧ ∃ z : Nat, z < 23 ∧ g2 (2 + k) 21 p = _ ∧ z ≠ _; rw [d6.s (by omega), d6.s (by omega)]; exact h0
      refine w_istore F dX1_cut_77 (by decide) rfl (lv' := [(0, _), (1, _), (2, _), (3, _), (4, _), (5, _), (6, _)]) rfl ?_
      refine w_aload_n F dX1_cut_79 rfl rfl ?_
      refine w_aload_n F dX1_cut_80 rfl (by first | rfl | exact rf_isRef _) ?_
      refine w_toN (j := p) rfl ?_
      refine w_aload_n F dX1_cut_81 rfl rfl ?_
      refine w_aload F dX1_cut_82 rfl rfl ?_
      refine w_callV F (As := [_, _, _]) (ct_replaceP hE g2 hk hy hxs p1 hpa2) (lw_V q524 q526 qs16 q71 q527) md_X1_replace (by omega) (cell_stO (by omega)) rfl rfl rfl rfl (Nat.le_of_ble_eq_true rfl) dX1_cut_84 ⟨by omega, by omega⟩ ⟨by omega, by omega⟩ ?_
      rintro _ _ ⟨rfl, rfl⟩
      rw [← hg3]
      refine w_keep [0, 1, 3, 4, 5, 6] (lv' := [(0, _), (1, _), (3, _), (4, _), (5, _), (6, _)]) rfl ?_
      exact fin87
  have loop : ∀ (u : TT) (g : GG) (y : Nat) (S' : Nat → Bool) (nu : List Nat) (C : TT → TT) (pre post' : List Nat) (pa : Option (Nat × Bool)), isL u = false → Foc T (g (2 + k)) (-1) x S0 C pre post' pa u y S' nu → KLc T (g (2 + k)) K t x pre post' pa u → ns = pre ++ nu ++ post' → delT K t = C (delT K u) → OffS k (fun f _ => f = 26) g1 g → OrdT (keyT T) u → (tl u).Nodup → (∀ i ∈ tl u, i ∈ tl t) → j ∈ tl u → Wg Φ 7 g 2 32 15 [(0, .ref (Φ.E.ad (11 + 31 * k))), (1, .int (iI (j : Int))), (3, va_rf (onode Φ.E.ad k (pz pa))), (4, .ref (Φ.E.ad (19 + 31 * k + y)))] [] := by
    intro u
    induction u with
    | leaf q =>
      intro g y S' nu C pre post' pa a0
      cases a0
    | branch s a b' iha ihb =>
      intro g y S' nu C pre post' pa a0 a1 a2 a3 a4 a5 a6 a7 a8 a10
      have hy := a1.1.lt
      obtain ⟨xa, xb, na, nb, e, h1, h2, h3, h4, h5, h6, h7, h8⟩ := id a1.1
      have hxa := h7.lt
      have hxb := h8.lt
      have a7' := List.nodup_append.mp a7
      obtain ⟨p1, p2, _, _, p5, p6⟩ := id a6
      have hnu : nu.Nodup := nd_in a1.2.1
      have hn1 := List.nodup_cons.mp (e ▸ hnu)
      have hn2 := List.nodup_append.mp hn1.2
      have hL1 : (tl a).length ≤ 12 := nd_len 12 _ a7'.1 (fun z hz => (hJ1 z (a8 z (List.mem_append_left _ hz))).1)
      have hL2 : (tl b').length ≤ 12 := nd_len 12 _ a7'.2.1 (fun z hz => (hJ1 z (a8 z (List.mem_append_right _ hz))).1)
      have hJg : JC T (g (2 + k)) j := (hJ1 j hjt).off a5 (fun f z w => by omega)
      refine w_aload F dX1_cut_15 rfl rfl ?_
      refine w_callV F (As := []) (ct_isLeafN hE g hk hy) (lw_V q422 q423 q424 q72 q425) md_X2_isLeaf (by omega) (cell_nd (by omega) (by omega)) rfl rfl rfl rfl (Nat.le_of_ble_eq_true rfl) dX1_cut_17 ⟨by omega, by omega⟩ ⟨by omega, by omega⟩ ?_
      rintro _ _ ⟨rfl, rfl⟩
      refine w_if_ne F (tgt := 51) dX1_cut_20 (by decide) (b2i_R _) (fun h => ?_) (fun h => ?_)
      · rw [b2i_n0] at h
        omega
      · refine w_aload F dX1_cut_23 rfl rfl ?_
        refine w_dup F dX1_cut_25 rfl ?_
        refine w_getF F (fN6 _ (by omega) (by omega)) (by omega) rfl in_X2 (by decide) (Or.inr q129) dX1_cut_26 ?_
        refine w_top h5 ?_
        refine w_iconst F dX1_cut_29 ?_
        refine w_isub F dX1_cut_30 ?_
        refine w_putF F (fN6 _ (by omega) (by omega)) (by omega) rfl in_X2 tyX2 tyX2_ok nmX2 (by decide) (Or.inr q129) rfl rfl rfl (by first | assumption | exact inR0 | exact (hR _ _ _).1 | (constructor <;> omega)) (noB rfl) (noP rfl) dX1_cut_31 ?_
        refine w_aload_n F dX1_cut_34 rfl (by first | rfl | exact rf_isRef _) ?_
        refine w_astore_n F dX1_cut_35 (by decide) rfl (lv' := [(0, _), (1, _), (2, _), (3, _), (4, _)]) rfl (by first | rfl | exact rf_isRef _) ?_
        refine w_aload F dX1_cut_36 rfl rfl ?_
        refine w_astore_n F dX1_cut_38 (by decide) (by first | rfl | (generalize onode _ _ _ = o; cases o <;> rfl)) (lv' := [(0, _), (1, _), (2, _), (3, _), (4, _)]) rfl rfl ?_
        refine w_aload_n F dX1_cut_39 rfl rfl ?_
        refine w_aload F dX1_cut_40 rfl rfl ?_
        refine w_iload_n F dX1_cut_42 rfl ?_
        obtain ⟨g2, hg2⟩ : ∃ z, z = gu g (2 + k) 26 y (((tl a).length : Int) + ((tl b').length : Int) - 1) := ⟨_, rfl⟩
        rw [← hg2]
        have o2 : OffS k (fun f i => f = 26 ∧ i = y) g g2 := by rw [hg2]; exact OffS.rf.up ⟨rfl, rfl⟩
        have hJg2 := hJg.off o2 (fun f z w => by omega)
        have hgl := gl_key (γ := g2) (k := k) (x := y) (T := T) (s := s) (j := j) (by rw [o2.s (by omega), o2.s (by omega)]; exact h4) j1 hjt2.1
        rw [← hK] at hgl
        have e1 : g2 (2 + k) 26 y = g (2 + k) 26 y + -1 := by rw [hg2, gu_s, h5]; omega
        have e2 : ∀ f z, ¬ (f = 26 ∧ z = y) → g2 (2 + k) f z = g (2 + k) f z := fun f z w => o2.s w
        refine w_callV F (As := [_, _]) (ct_partS hE g2 hk hy hJg2) (lw_V q426 q428 qs9 q71 q429) md_X1_part (by omega) (cell_stO (by omega)) rfl rfl rfl rfl (Nat.le_of_ble_eq_true rfl) dX1_cut_43 ⟨by omega, by omega⟩ ⟨by omega, by omega⟩ ?_
        rintro _ _ ⟨rfl, rfl⟩
        by_cases hc : K ≤ s
        · skip
          rw [if_pos (hgl.mpr hc), o2.s (by omega)]
          refine w_toN h2 ?_
          refine w_astore F dX1_cut_46 (by decide) rfl (lv' := [(0, _), (1, _), (2, _), (3, _), (4, _)]) rfl rfl ?_
          refine w_goto F (tgt := 15) dX1_cut_48 (by decide) ?_
          cases ha : a with
          | leaf q =>
            subst ha
            obtain ⟨en, _, l2, _, _, _, _, _⟩ := id h7
            have ejq : j = q := by
              rcases List.mem_append.mp a10 with w | w
              · simpa [tl] using w
              · have := p2 j w; omega
            refine w_aload F dX1_cut_15 rfl rfl ?_
            refine w_callV F (As := []) (ct_isLeafN hE g2 hk hxa) (lw_V q422 q423 q424 q72 q425) md_X2_isLeaf (by omega) (cell_nd (by omega) (by omega)) rfl rfl rfl rfl (Nat.le_of_ble_eq_true rfl) dX1_cut_17 ⟨by omega, by omega⟩ ⟨by omega, by omega⟩ ?_
            rintro _ _ ⟨rfl, rfl⟩
            refine w_if_ne F (tgt := 51) dX1_cut_20 (by decide) (b2i_R _) (fun h9 => ?_) (fun h9 => ?_)
            · refine w_aload_n F dX1_cut_51 rfl rfl ?_
              refine w_getF F (fN1 _ (by omega) (by omega)) (by omega) rfl in_X2 (by decide) (Or.inr q116) dX1_cut_52 ?_
              refine w_aload F dX1_cut_55 rfl rfl ?_
              refine w_frN ?_
              refine w_acmp_ne F (tgt := 67) dX1_cut_57 (by decide) (by omega) (by rw [o2.s (by omega)]; omega) (by omega) (fun h10 => ?_) (fun h10 => ?_)
              · rw [o2.s (by omega), h2] at h10
                omega
              · refine w_aload_n F dX1_cut_60 rfl rfl ?_
                refine w_getF F (fN2 _ (by omega) (by omega)) (by omega) rfl in_X2 (by decide) (Or.inr q118) dX1_cut_61 ?_
                refine w_goto F (tgt := 71) dX1_cut_64 (by decide) ?_
                rw [o2.s (by omega)]
                refine w_toN h3 ?_
                refine w_astore F dX1_cut_71 (by decide) rfl (lv' := [(0, _), (1, _), (2, _), (3, _), (4, _), (5, _)]) rfl rfl ?_
                refine fin73 g g2 _ b' y xa xb S' nu nb C pre post' pa _ a1 a2 a3 ?_ a5 o2 ?_ ?_ ?_ ?_ hxa ?_ ?_ rfl h6 ?_ ?_ ?_ a8 p6 a7'.2.1 ?_
                · rw [a4]; simp only [delT]; rw [if_pos hc, if_pos (show isL (.leaf q) = true from rfl)]
                · intro z; rw [e, en]; simp
                · exact fun w => hn1.1 (by rw [w, en]; simp)
                · exact fun w => hn1.1 (List.mem_append_right _ w)
                · exact fun w => hn2.2.2 xa (by rw [en]; simp) xa w rfl
                · exact h8
                · exact hn2.2.1
                · intro i; rw [ejq]; simp [tl]
                · simp [tl]
                · intro σ' Kl; unfold LastAt; rw [if_pos hc, if_pos (show isL (.leaf q) = true from rfl)]
                · exact ⟨fun _ q => q, fun q hq => List.mem_cons_of_mem _ (List.mem_append_right _ hq)⟩
            · rw [b2i_0] at h9
              have : g2 (2 + k) 21 xa = -1 := by rw [o2.s (fun w => hn1.1 (by rw [← w.2, en]; simp))]; exact l2
              omega
          | branch s' c1 c2 =>
            have hisl : isL a = false := by rw [ha]; rfl
            refine w_keep [0, 1, 3, 4] (lv' := [(0, _), (1, _), (3, _), (4, _)]) rfl ?_
            have hF := a1.left (σ2 := g2 (2 + k)) e h1 h2 h3 h4 h5 h6 h7 h8 e1 e2
            have hK2 := a2.left a1 e a6 hc hisl e2
            have := iha g2 xa _ _ _ _ _ (some (y, true)) hisl hF hK2 (by rw [a3, e]; simp) (by rw [a4]; simp only [delT]; rw [if_pos hc, if_neg (by rw [hisl]; decide)]) (a5.tr (o2.mono (fun f i q => q.1))) p5 a7'.1 (fun i hi => a8 i (List.mem_append_left _ hi)) ?_
            · rw [show onode Φ.E.ad k (pz (some (y, true))) = some (Φ.E.ad (19 + 31 * k + y)) from onode_s rfl] at this
              exact this
            · rcases List.mem_append.mp a10 with w | w
              · exact w
              · have := p2 j w; omega
        · skip
          rw [if_neg (fun q => hc (hgl.mp q)), o2.s (by omega)]
          refine w_toN h3 ?_
          refine w_astore F dX1_cut_46 (by decide) rfl (lv' := [(0, _), (1, _), (2, _), (3, _), (4, _)]) rfl rfl ?_
          refine w_goto F (tgt := 15) dX1_cut_48 (by decide) ?_
          cases hb : b' with
          | leaf q =>
            subst hb
            obtain ⟨en, _, l2, _, _, _, _, _⟩ := id h8
            have ejq : j = q := by
              rcases List.mem_append.mp a10 with w | w
              · have := p1 j w; omega
              · simpa [tl] using w
            refine w_aload F dX1_cut_15 rfl rfl ?_
            refine w_callV F (As := []) (ct_isLeafN hE g2 hk hxb) (lw_V q422 q423 q424 q72 q425) md_X2_isLeaf (by omega) (cell_nd (by omega) (by omega)) rfl rfl rfl rfl (Nat.le_of_ble_eq_true rfl) dX1_cut_17 ⟨by omega, by omega⟩ ⟨by omega, by omega⟩ ?_
            rintro _ _ ⟨rfl, rfl⟩
            refine w_if_ne F (tgt := 51) dX1_cut_20 (by decide) (b2i_R _) (fun h9 => ?_) (fun h9 => ?_)
            · refine w_aload_n F dX1_cut_51 rfl rfl ?_
              refine w_getF F (fN1 _ (by omega) (by omega)) (by omega) rfl in_X2 (by decide) (Or.inr q116) dX1_cut_52 ?_
              refine w_aload F dX1_cut_55 rfl rfl ?_
              refine w_frN ?_
              refine w_acmp_ne F (tgt := 67) dX1_cut_57 (by decide) (by omega) (by rw [o2.s (by omega)]; omega) (by omega) (fun h10 => ?_) (fun h10 => ?_)
              · refine w_aload_n F dX1_cut_67 rfl rfl ?_
                refine w_getF F (fN1 _ (by omega) (by omega)) (by omega) rfl in_X2 (by decide) (Or.inr q116) dX1_cut_68 ?_
                rw [o2.s (by omega)]
                refine w_toN h2 ?_
                refine w_astore F dX1_cut_71 (by decide) rfl (lv' := [(0, _), (1, _), (2, _), (3, _), (4, _), (5, _)]) rfl rfl ?_
                refine fin73 g g2 _ a y xb xa S' nu na C pre post' pa _ a1 a2 a3 ?_ a5 o2 ?_ ?_ ?_ ?_ hxb ?_ ?_ rfl h6 ?_ ?_ ?_ a8 p5 a7'.1 ?_
                · rw [a4]; simp only [delT]; rw [if_neg hc, if_pos (show isL (.leaf q) = true from rfl)]
                · intro z; rw [e, en]; simp; constructor <;> (rintro (w | w | w) <;> simp [w])
                · exact fun w => hn1.1 (by rw [w, en]; simp)
                · exact fun w => hn1.1 (List.mem_append_left _ w)
                · exact fun w => hn2.2.2 xb w xb (by rw [en]; simp) rfl
                · exact h7
                · exact hn2.1
                · intro i; rw [ejq]; simp [tl]; exact or_comm
                · simp [tl]
                · intro σ' Kl; unfold LastAt; rw [if_neg hc, if_pos (show isL (.leaf q) = true from rfl)]
                · exact ⟨fun _ q => q, fun q hq => List.mem_cons_of_mem _ (List.mem_append_left _ hq)⟩
              · rw [o2.s (by omega), h2] at h10
                have := hn2.2.2 xa h7.me xb (by rw [en]; simp)
                omega
            · rw [b2i_0] at h9
              have : g2 (2 + k) 21 xb = -1 := by rw [o2.s (fun w => hn1.1 (by rw [← w.2, en]; simp))]; exact l2
              omega
          | branch s' c1 c2 =>
            have hisl : isL b' = false := by rw [hb]; rfl
            refine w_keep [0, 1, 3, 4] (lv' := [(0, _), (1, _), (3, _), (4, _)]) rfl ?_
            have hF := a1.right (σ2 := g2 (2 + k)) e h1 h2 h3 h4 h5 h6 h7 h8 e1 e2
            have hK2 := a2.right a1 e a6 hc hisl e2
            have := ihb g2 xb _ _ _ _ _ (some (y, false)) hisl hF hK2 (by rw [a3, e]; simp) (by rw [a4]; simp only [delT]; rw [if_neg hc, if_neg (by rw [hisl]; decide)]) (a5.tr (o2.mono (fun f i q => q.1))) p6 a7'.2.1 (fun i hi => a8 i (List.mem_append_right _ hi)) ?_
            · rw [show onode Φ.E.ad k (pz (some (y, false))) = some (Φ.E.ad (19 + 31 * k + y)) from onode_s rfl] at this
              exact this
            · rcases List.mem_append.mp a10 with w | w
              · have := p1 j w; omega
              · exact w
  refine w_null F dX1_cut_5 ?_
  refine w_nlN (i := k) ?_
  refine w_astore_n F dX1_cut_6 (by decide) rfl (lv' := [(0, _), (1, _), (2, _)]) rfl (by first | rfl | exact rf_isRef _) ?_
  refine w_null F dX1_cut_7 ?_
  refine w_nlN (i := k) ?_
  refine w_astore_n F dX1_cut_8 (by decide) (by first | rfl | (generalize onode _ _ _ = o; cases o <;> rfl)) (lv' := [(0, _), (1, _), (2, _), (3, _)]) rfl (by first | rfl | exact rf_isRef _) ?_
  refine w_aload_n F dX1_cut_9 rfl rfl ?_
  refine w_getF F (fS2 _ (by omega)) (by omega) rfl in_X1 (by decide) (Or.inl q151) dX1_cut_10 ?_
  refine w_toN hroot1 ?_
  refine w_astore F dX1_cut_13 (by decide) (by first | rfl | (generalize onode _ _ _ = o; cases o <;> rfl)) (lv' := [(0, _), (1, _), (2, _), (3, _), (4, _)]) rfl rfl ?_
  refine w_keep [0, 1, 3, 4] (lv' := [(0, _), (1, _), (3, _), (4, _)]) rfl ?_
  exact loop t g1 x S0 ns (fun u => u) [] [] none hLt (Foc.top r1 hnd) KLc.top (by simp) rfl OffS.rf hOt hNt (fun i hi => hi) hjt
end S13
