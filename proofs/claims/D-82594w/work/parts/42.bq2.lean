theorem plF_cases (G : GS) (x y : Int32) : (∃ k o, k < 4 ∧ o < 40 ∧ x = nI k ∧ y = nI o ∧ th (tr G k) o = true ∧ plF G x y = some (k, o)) ∨ plF G x y = none := by
  rcases ix_cases 4 x (by omega) with ⟨k, hk, rfl, e⟩ | ⟨-, e⟩
  · rcases ix_cases 40 y (by omega) with ⟨o, ho, rfl, e2⟩ | ⟨-, e2⟩
    · by_cases ht : th (tr G k) o = true
      · exact Or.inl ⟨k, o, hk, ho, rfl, rfl, ht, by unfold plF; rw [e, e2]; exact if_pos ht⟩
      · exact Or.inr (by unfold plF; rw [e, e2]; exact if_neg ht)
    · exact Or.inr (by unfold plF; rw [e, e2])
  · exact Or.inr (by unfold plF; rw [e])
theorem GI.wf {G : GS} (h : GI G) {k : Nat} (hk : k < 4) : WF (tr G k) := WF.rn (NI.ok h.1 (h.2.2.1 k hk))
noncomputable def dpt (S : TS) (o : Nat) : Nat × Nat := @dite _ (∃ x : Nat × Nat, (x.2 = 0 ∨ x.2 = 40) ∧ anc S x.1 o = some x.2) (Classical.propDecidable _) (fun h => Classical.choose h) (fun _ => (0, 0))
theorem dpt_eq {S : TS} (hW : WF S) {o d t : Nat} (ht : t = 0 ∨ t = 40) (ha : anc S d o = some t) : dpt S o = (d, t) := by
  unfold dpt
  have hex : ∃ x : Nat × Nat, (x.2 = 0 ∨ x.2 = 40) ∧ anc S x.1 o = some x.2 := ⟨(d, t), ht, ha⟩
  rw [dif_pos hex]
  have hs := Classical.choose_spec hex
  have := anc_uni hs.2 (hW.tn hs.1) ha (hW.tn ht)
  exact Prod.ext this.1 this.2
noncomputable def obF (S : TS) (o : Nat) (w : Int32) : Int32 :=
  if w = 0 then (match pr S o with
    | none => -1
    | some p => if p = 40 then -1 else nI p)
  else if w = 1 then (if (dpt S o).2 = 40 then nI ((dpt S o).1 - 1) else nI (dpt S o).1)
  else if w = 2 then nI (ki S o).length else if w = 3 then (if (dpt S o).2 = 40 then 1 else 0) else if w = 4 then nI (atK S o) else if w = 5 then oO (las S o) else -1
noncomputable def aObj (G : GS) (x y z : Int32) : Int32 := match plF G x y with
  | none => -1
  | some q => obF (tr G q.1) q.2 z
theorem c_Bobject (l : Launch) (Θ : Glob) (M : Mem) (X : Nat) (A : BA) (G : GS) (hG : GI G) (hB : BT M X A G) (x y z : Int32) : Ct l Θ y_Bobject 12 0 0 [.ref X, .int x, .int y, .int z] M (pI fun r M1 => r = aObj G x y z ∧ M1 = M) := by
  have hB0 := hB
  obtain ⟨⟨⟨a1, a2, a3, a4, a5, a6⟩, ⟨b1, b2⟩, ⟨c1, c2, c3, c4⟩, ⟨e1, e2, e3, e4⟩⟩, hRw, hGl, hNd⟩ := hB
  have hn300 := hG.1.1
  have hsz := b1.len
  rw [rwL_len] at hsz
  refine Ct.start (cc := b_Bobject) (nL := 7) (ret := (some .int)) [some (.ref X), some (.int x), some (.int y), some (.int z), none, none, none] mi_Bobject.1 (by decide +kernel) (by intro v hv; simp at hv; rcases hv with rfl | rfl | rfl | rfl <;> rfl) (by simp) rfl (fun p e s m args below meth c hC => ?_)
  refine r_aload_n hC 0 d_Bobject_0 rfl rfl ?_
  refine r_iload_n hC 1 d_Bobject_1 rfl rfl ?_
  refine r_iload_n hC 2 d_Bobject_2 rfl rfl ?_
  refine r_cVr hC [.int x, .int y] rfl (c_Bplace l Θ M X A G hG hB0 x y) mi_Bplace lk_B118 in_Bplace (ci := 0) rfl rfl (by exact a1) rfl (Nat.le_of_ble_eq_true rfl) ⟨Nat.le_of_ble_eq_true rfl, Nat.le_of_ble_eq_true rfl⟩ ⟨Nat.le_of_ble_eq_true rfl, Nat.le_of_ble_eq_true rfl⟩ d_Bobject_3 (fun r M1 h1 => ?_)
  obtain ⟨rfl, rfl⟩ := h1
  rcases plF_cases G x y with ⟨k, o, hk, ho, rfl, rfl, hth, ep⟩ | ep
  · have ea : aObj G (nI k) (nI o) z = obF (tr G k) o z := by unfold aObj; rw [ep]
    rw [ep, ea]
    obtain ⟨hX, -, -, -, -, -⟩ := hNd k hk
    have hT := hX.1.1
    have hP : PA M1 (nA (bD A k)) (nC (bD A k)) (tr G k) (vC (qD G k)) := hX.2.1
    have hW := hG.wf hk
    obtain ⟨dd, t, hd8, ht, hanc⟩ := hW.dp hth
    have edp := dpt_eq hW ht hanc
    obtain ⟨p1, p2, p3, p4, p5, p6⟩ := hP.1 o (by omega)
    have hLs := hP.2.1 o (by omega)
    have hlsz := hLs.len
    rw [List.length_map] at hlsz
    generalize tr G k = S at *
    refine r_as4 hC d_Bobject_6 ?_
    refine r_aload hC 4 d_Bobject_8 rfl ?_
    refine r_ifnonnull hC (r := some (nA (bD A k) o)) 15 d_Bobject_10 (by decide) (fun _ _ => ?_) (fun q => by cases q)
    refine r_aload_n hC 0 d_Bobject_15 rfl rfl ?_
    refine r_getS hC 0 1 1 fl_B18 (by exact a1) d_Bobject_16 rfl rfl (by exact a4) ?_
    refine r_iload_n hC 1 d_Bobject_19 rfl rfl ?_
    refine r_aaldS hC 5 k (by rw [c1]; rfl) (by omega) rfl (by rw [c3]; exact hk) (by rw [c3]; omega) d_Bobject_20 (c4 k hk) ?_
    refine r_as5 hC d_Bobject_21 ?_
    have sw : ∀ v : Int32, v = b2i (dm (pr S o = none ∨ pr S o = some 40)) → Gj p l e (rmo 12 0 0) s m args below meth c Θ M1 [some (.ref X), some (.int (nI k)), some (.int (nI o)), some (.int z), some (.ref (nA (bD A k) o)), some (.ref (nT (bD A k))), none] 0 0 (Fn below args s Θ 0 0 (pI fun r M2 => r = obF S o z ∧ M2 = M1)) 46 [.int v] := by
      intro v hv
      subst hv
      refine r_is6 hC d_Bobject_46 ?_
      refine r_iload_n hC 3 d_Bobject_48 rfl rfl ?_
      rcases sw6 z with rfl | rfl | rfl | rfl | rfl | rfl | ⟨hy, y0, y1, y2, y3, y4, y5⟩
      · refine r_tableIn hC 88 d_Bobject_49 (by decide) (by decide) rfl (by decide) ?_
        refine r_iload hC 6 d_Bobject_88 rfl ?_
        cases hp : pr S o with
        | none =>
          rw [dm_t (Or.inl rfl)]
          refine r_if_eq hC 97 d_Bobject_90 (by decide) (fun q => absurd q i10) (fun _ => ?_)
          refine r_iconst hC (-1) d_Bobject_93 (by decide) ?_
          refine r_goto hC 105 d_Bobject_94 (by decide) ?_
          exact r_iret hC d_Bobject_105 (Nat.le_refl _) (Nat.le_refl _) ⟨_, rfl, by unfold obF; rw [if_pos rfl, hp], rfl⟩
        | some q =>
          by_cases hq : q = 40
          · rw [dm_t (Or.inr (by rw [hq]))]
            refine r_if_eq hC 97 d_Bobject_90 (by decide) (fun q => absurd q i10) (fun _ => ?_)
            refine r_iconst hC (-1) d_Bobject_93 (by decide) ?_
            refine r_goto hC 105 d_Bobject_94 (by decide) ?_
            exact r_iret hC d_Bobject_105 (Nat.le_refl _) (Nat.le_refl _) ⟨_, rfl, by unfold obF; rw [if_pos rfl, hp]; exact (if_pos hq).symm, rfl⟩
          · rw [dm_f (fun w => by rcases w with w | w; cases w; exact hq (Option.some.inj w))]
            refine r_if_eq hC 97 d_Bobject_90 (by decide) (fun _ => ?_) (fun q => absurd rfl q)
            rw [hp] at p4
            have p4 : fR M1 34 (nA (bD A k) o) = some (nA (bD A k) q) := p4
            have hq40 := (hW.ple hp).1
            have o32 := (hP.1 q hq40).2.1
            have oq : oI q = nI q := if_neg hq
            rw [oq] at o32
            refine r_aload hC 4 d_Bobject_97 rfl ?_
            refine r_getS hC 1 2 34 fl_B122 (by exact p1) d_Bobject_99 rfl rfl (by exact p4) ?_
            refine r_getI hC 1 0 32 fl_B130 (by exact hP.kp hq40) d_Bobject_102 rfl rfl (by exact o32) ?_
            exact r_iret hC d_Bobject_105 (Nat.le_refl _) (Nat.le_refl _) ⟨_, rfl, by unfold obF; rw [if_pos rfl, hp]; exact (if_neg hq).symm, rfl⟩
      · refine r_tableIn hC 106 d_Bobject_49 (by decide) (by decide) rfl (by decide) ?_
        refine r_aload hC 5 d_Bobject_106 rfl ?_
        refine r_aload hC 4 d_Bobject_108 rfl ?_
        refine r_cNi hC [.ref (nA (bD A k) o)] rfl (c_TisBelowBin l Θ M1 _ _ S _ hP hW _ _ _ _ _ hT o dd t (by omega) hanc ht hd8) mi_TisBelowBin lk_B133 in_TisBelowBin (ci := 4) rfl rfl (by exact hT.1) rfl (Nat.le_of_ble_eq_true rfl) ⟨Nat.le_of_ble_eq_true rfl, Nat.le_of_ble_eq_true rfl⟩ ⟨Nat.le_of_ble_eq_true rfl, Nat.le_of_ble_eq_true rfl⟩ d_Bobject_110 (fun r M2 h2 => ?_)
        obtain ⟨rfl, rfl⟩ := h2
        have ev : obF S o 1 = if t = 40 then nI (dd - 1) else nI dd := by unfold obF; rw [if_neg (by decide), if_pos rfl, edp]
        by_cases ht40 : t = 40
        · rw [decide_eq_true ht40]
          have hd1 : 1 ≤ dd := by
            rcases Nat.eq_zero_or_pos dd with q | q
            · rw [q, anc_0] at hanc
              have := Option.some.inj hanc
              omega
            · exact q
          refine r_if_eq hC 126 d_Bobject_113 (by decide) (fun q => absurd q i10) (fun _ => ?_)
          refine r_aload hC 4 d_Bobject_116 rfl ?_
          refine r_cVi hC [] rfl (c_Pdepth l Θ M2 _ _ S _ hP hW dd t (hW.tn ht) o (by omega) hanc) mi_Pdepth lk_B136 in_Pdepth (ci := 1) rfl rfl (by exact p1) rfl (Nat.le_of_ble_eq_true rfl) ⟨by show dd + 1 + 1 ≤ 12; omega, by show 8 + (1 + 11) + 32 * (dd + 1) ≤ 32 * 12; omega⟩ ⟨Nat.le_of_ble_eq_true rfl, Nat.le_of_ble_eq_true rfl⟩ d_Bobject_118 (fun r M3 h3 => ?_)
          obtain ⟨rfl, rfl⟩ := h3
          refine r_iconst hC 1 d_Bobject_121 (by decide) ?_
          refine r_isub hC (nI (dd - 1)) d_Bobject_122 (by rw [show (1 : Int32) = nI 1 from rfl, pk_sub hd1]) ?_
          refine r_goto hC 131 d_Bobject_123 (by decide) ?_
          exact r_iret hC d_Bobject_131 (Nat.le_refl _) (Nat.le_refl _) ⟨_, rfl, by rw [ev, if_pos ht40], rfl⟩
        · rw [decide_eq_false ht40]
          refine r_if_eq hC 126 d_Bobject_113 (by decide) (fun _ => ?_) (fun q => absurd rfl q)
          refine r_aload hC 4 d_Bobject_126 rfl ?_
          refine r_cVi hC [] rfl (c_Pdepth l Θ M2 _ _ S _ hP hW dd t (hW.tn ht) o (by omega) hanc) mi_Pdepth lk_B136 in_Pdepth (ci := 1) rfl rfl (by exact p1) rfl (Nat.le_of_ble_eq_true rfl) ⟨by show dd + 1 + 1 ≤ 12; omega, by show 8 + (1 + 11) + 32 * (dd + 1) ≤ 32 * 12; omega⟩ ⟨Nat.le_of_ble_eq_true rfl, Nat.le_of_ble_eq_true rfl⟩ d_Bobject_128 (fun r M3 h3 => ?_)
          obtain ⟨rfl, rfl⟩ := h3
          exact r_iret hC d_Bobject_131 (Nat.le_refl _) (Nat.le_refl _) ⟨_, rfl, by rw [ev, if_neg ht40], rfl⟩
      · refine r_tableIn hC 132 d_Bobject_49 (by decide) (by decide) rfl (by decide) ?_
        refine r_aload hC 4 d_Bobject_132 rfl ?_
        refine r_getS hC 1 1 33 fl_B139 (by exact p1) d_Bobject_134 rfl rfl (by exact p3) ?_
        refine r_cVi hC [] rfl (c_Asize l Θ M1 _ hLs.1) mi_Asize lk_B33 in_Asize (ci := 6) rfl rfl (by exact hLs.1) rfl (Nat.le_of_ble_eq_true rfl) ⟨Nat.le_of_ble_eq_true rfl, Nat.le_of_ble_eq_true rfl⟩ ⟨Nat.le_of_ble_eq_true rfl, Nat.le_of_ble_eq_true rfl⟩ d_Bobject_137 (fun r M2 h2 => ?_)
        obtain ⟨rfl, rfl⟩ := h2
        exact r_iret hC d_Bobject_140 (Nat.le_refl _) (Nat.le_refl _) ⟨_, rfl, by unfold obF; rw [if_neg (by decide), if_neg (by decide), if_pos rfl]; exact hlsz, rfl⟩
      · refine r_tableIn hC 141 d_Bobject_49 (by decide) (by decide) rfl (by decide) ?_
        refine r_aload hC 5 d_Bobject_141 rfl ?_
        refine r_aload hC 4 d_Bobject_143 rfl ?_
        refine r_cNi hC [.ref (nA (bD A k) o)] rfl (c_TisBelowBin l Θ M1 _ _ S _ hP hW _ _ _ _ _ hT o dd t (by omega) hanc ht hd8) mi_TisBelowBin lk_B133 in_TisBelowBin (ci := 4) rfl rfl (by exact hT.1) rfl (Nat.le_of_ble_eq_true rfl) ⟨Nat.le_of_ble_eq_true rfl, Nat.le_of_ble_eq_true rfl⟩ ⟨Nat.le_of_ble_eq_true rfl, Nat.le_of_ble_eq_true rfl⟩ d_Bobject_145 (fun r M2 h2 => ?_)
        obtain ⟨rfl, rfl⟩ := h2
        have ev : obF S o 3 = if t = 40 then 1 else 0 := by unfold obF; rw [if_neg (by decide), if_neg (by decide), if_neg (by decide), if_pos rfl, edp]
        by_cases ht40 : t = 40
        · rw [decide_eq_true ht40]
          refine r_if_eq hC 155 d_Bobject_148 (by decide) (fun q => absurd q i10) (fun _ => ?_)
          refine r_iconst hC 1 d_Bobject_151 (by decide) ?_
          refine r_goto hC 156 d_Bobject_152 (by decide) ?_
          exact r_iret hC d_Bobject_156 (Nat.le_refl _) (Nat.le_refl _) ⟨_, rfl, by rw [ev, if_pos ht40], rfl⟩
        · rw [decide_eq_false ht40]
          refine r_if_eq hC 155 d_Bobject_148 (by decide) (fun _ => ?_) (fun q => absurd rfl q)
          refine r_iconst hC 0 d_Bobject_155 (by decide) ?_
          exact r_iret hC d_Bobject_156 (Nat.le_refl _) (Nat.le_refl _) ⟨_, rfl, by rw [ev, if_neg ht40], rfl⟩
      · refine r_tableIn hC 157 d_Bobject_49 (by decide) (by decide) rfl (by decide) ?_
        have ev : obF S o 4 = nI (atK S o) := by unfold obF; rw [if_neg (by decide), if_neg (by decide), if_neg (by decide), if_neg (by decide), if_pos rfl]
        cases hp : pr S o with
        | none =>
          rw [hp] at p4
          have p4 : fR M1 34 (nA (bD A k) o) = none := p4
          refine r_aload hC 4 d_Bobject_157 rfl ?_
          refine r_getR hC 1 2 34 fl_B122 (by exact p1) d_Bobject_159 rfl rfl (by exact p4) ?_
          refine r_ifnonnull hC (r := none) 169 d_Bobject_162 (by decide) (fun _ q => by cases q) (fun _ => ?_)
          refine r_iconst hC 0 d_Bobject_165 (by decide) ?_
          refine r_goto hC 179 d_Bobject_166 (by decide) ?_
          exact r_iret hC d_Bobject_179 (Nat.le_refl _) (Nat.le_refl _) ⟨_, rfl, by rw [ev]; unfold atK; rw [hp]; rfl, rfl⟩
        | some q =>
          rw [hp] at p4
          have p4 : fR M1 34 (nA (bD A k) o) = some (nA (bD A k) q) := p4
          have hq40 := (hW.ple hp).1
          refine r_aload hC 4 d_Bobject_157 rfl ?_
          refine r_getS hC 1 2 34 fl_B122 (by exact p1) d_Bobject_159 rfl rfl (by exact p4) ?_
          refine r_ifnonnull hC (r := some (nA (bD A k) q)) 169 d_Bobject_162 (by decide) (fun _ _ => ?_) (fun q => by cases q)
          refine r_aload hC 4 d_Bobject_169 rfl ?_
          refine r_getS hC 1 2 34 fl_B122 (by exact p1) d_Bobject_171 rfl rfl (by exact p4) ?_
          refine r_aload hC 4 d_Bobject_174 rfl ?_
          refine r_cVi hC [.ref (nA (bD A k) o)] rfl (c_PplaceOf l Θ M1 _ _ S _ hP q o hq40 (hW.kp.mp hp) (hW.nd q) (fun y hy => by have := (hW.klt hy).1; omega) (hW.klen q)) mi_PplaceOf lk_B142 in_PplaceOf (ci := 1) rfl rfl (by exact hP.kp hq40) rfl (Nat.le_of_ble_eq_true rfl) ⟨Nat.le_of_ble_eq_true rfl, Nat.le_of_ble_eq_true rfl⟩ ⟨Nat.le_of_ble_eq_true rfl, Nat.le_of_ble_eq_true rfl⟩ d_Bobject_176 (fun r M2 h2 => ?_)
          obtain ⟨rfl, rfl⟩ := h2
          exact r_iret hC d_Bobject_179 (Nat.le_refl _) (Nat.le_refl _) ⟨_, rfl, by rw [ev]; unfold atK; rw [hp], rfl⟩
      · refine r_tableIn hC 180 d_Bobject_49 (by decide) (by decide) rfl (by decide) ?_
        have ev : obF S o 5 = oO (las S o) := by unfold obF; rw [if_neg (by decide), if_neg (by decide), if_neg (by decide), if_neg (by decide), if_neg (by decide), if_pos rfl]
        cases hp : las S o with
        | none =>
          rw [hp] at p5
          have p5 : fR M1 35 (nA (bD A k) o) = none := p5
          refine r_aload hC 4 d_Bobject_180 rfl ?_
          refine r_getR hC 1 3 35 fl_B146 (by exact p1) d_Bobject_182 rfl rfl (by exact p5) ?_
          refine r_ifnonnull hC (r := none) 192 d_Bobject_185 (by decide) (fun _ q => by cases q) (fun _ => ?_)
          refine r_iconst hC (-1) d_Bobject_188 (by decide) ?_
          refine r_goto hC 200 d_Bobject_189 (by decide) ?_
          exact r_iret hC d_Bobject_200 (Nat.le_refl _) (Nat.le_refl _) ⟨_, rfl, by rw [ev, hp]; rfl, rfl⟩
        | some q =>
          rw [hp] at p5
          have p5 : fR M1 35 (nA (bD A k) o) = some (nA (bD A k) q) := p5
          have hq40 := hW.ls hp
          have o32 := (hP.1 q (by omega)).2.1
          have oq : oI q = nI q := if_neg (by omega)
          rw [oq] at o32
          refine r_aload hC 4 d_Bobject_180 rfl ?_
          refine r_getS hC 1 3 35 fl_B146 (by exact p1) d_Bobject_182 rfl rfl (by exact p5) ?_
          refine r_ifnonnull hC (r := some (nA (bD A k) q)) 192 d_Bobject_185 (by decide) (fun _ _ => ?_) (fun q => by cases q)
          refine r_aload hC 4 d_Bobject_192 rfl ?_
          refine r_getS hC 1 3 35 fl_B146 (by exact p1) d_Bobject_194 rfl rfl (by exact p5) ?_
          refine r_getI hC 1 0 32 fl_B130 (by exact hP.kp (by omega)) d_Bobject_197 rfl rfl (by exact o32) ?_
          exact r_iret hC d_Bobject_200 (Nat.le_refl _) (Nat.le_refl _) ⟨_, rfl, by rw [ev, hp]; rfl, rfl⟩
      · refine r_tableOut hC 201 d_Bobject_49 hy (by decide) ?_
        refine r_iconst hC (-1) d_Bobject_201 (by decide) ?_
        exact r_iret hC d_Bobject_202 (Nat.le_refl _) (Nat.le_refl _) ⟨_, rfl, by unfold obF; rw [if_neg y0, if_neg y1, if_neg y2, if_neg y3, if_neg y4, if_neg y5], rfl⟩
    cases hp : pr S o with
    | none =>
      rw [hp] at p4
      have p4 : fR M1 34 (nA (bD A k) o) = none := p4
      refine r_aload hC 4 d_Bobject_23 rfl ?_
      refine r_getR hC 1 2 34 fl_B122 (by exact p1) d_Bobject_25 rfl rfl (by exact p4) ?_
      refine r_ifnull hC (r := none) 41 d_Bobject_28 (by decide) (fun _ => ?_) (fun _ q => by cases q)
      refine r_iconst hC 1 d_Bobject_41 (by decide) ?_
      refine r_goto hC 46 d_Bobject_42 (by decide) ?_
      exact sw 1 (by rw [dm_t (Or.inl hp)]; rfl)
    | some q =>
      rw [hp] at p4
      have p4 : fR M1 34 (nA (bD A k) o) = some (nA (bD A k) q) := p4
      refine r_aload hC 4 d_Bobject_23 rfl ?_
      refine r_getS hC 1 2 34 fl_B122 (by exact p1) d_Bobject_25 rfl rfl (by exact p4) ?_
      refine r_ifnull hC (r := some (nA (bD A k) q)) 41 d_Bobject_28 (by decide) (fun q => by cases q) (fun _ _ => ?_)
      refine r_aload hC 5 d_Bobject_31 rfl ?_
      refine r_aload hC 4 d_Bobject_33 rfl ?_
      refine r_cNi hC [.ref (nA (bD A k) o)] rfl (c_TisInBin l Θ M1 _ _ S _ hP hW _ _ _ _ _ hT o (by omega)) mi_TisInBin lk_B126 in_TisInBin (ci := 4) rfl rfl (by exact hT.1) rfl (Nat.le_of_ble_eq_true rfl) ⟨Nat.le_of_ble_eq_true rfl, Nat.le_of_ble_eq_true rfl⟩ ⟨Nat.le_of_ble_eq_true rfl, Nat.le_of_ble_eq_true rfl⟩ d_Bobject_35 (fun r M2 h2 => ?_)
      obtain ⟨rfl, rfl⟩ := h2
      refine r_if_eq hC 45 d_Bobject_38 (by decide) (fun z2 => ?_) (fun z2 => ?_)
      · skip
        refine r_iconst hC 0 d_Bobject_45 (by decide) ?_
        refine sw 0 ?_
        rw [dm_f (fun w => ?_)]
        · rfl
        · rcases w with w | w
          · rw [hp] at w; cases w
          · rw [dm_t w] at z2; exact i10 z2
      · skip
        refine r_iconst hC 1 d_Bobject_41 (by decide) ?_
        refine r_goto hC 46 d_Bobject_42 (by decide) ?_
        refine sw 1 ?_
        rw [dm_t (Or.inr (dm_iff.mp (b2i_ne z2)))]
        rfl
  · have ea : aObj G x y z = -1 := by unfold aObj; rw [ep]
    rw [ep, ea]
    refine r_aq4 hC d_Bobject_6 ?_
    refine r_aloadQ hC 4 d_Bobject_8 rfl ?_
    refine r_ifnonnull hC (r := none) 15 d_Bobject_10 (by decide) (fun _ q => by cases q) (fun _ => ?_)
    refine r_iconst hC (-1) d_Bobject_13 (by decide) ?_
    exact r_iret hC d_Bobject_14 (Nat.le_refl _) (Nat.le_refl _) ⟨_, rfl, rfl, rfl⟩
