noncomputable def chF (S : TS) (o : Nat) (z : Int32) : Int32 := match ix (ki S o).length z with
  | none => -1
  | some i => nI ((ki S o)[i]?.getD 0)
noncomputable def aChd (G : GS) (x y z : Int32) : Int32 := match ix 4 x with
  | none => -1
  | some k => if y = -1 then chF (tr G k) 40 z else (match plF G x y with
    | none => -1
    | some q => chF (tr G k) q.2 z)
theorem c_Bchild (l : Launch) (Θ : Glob) (M : Mem) (X : Nat) (A : BA) (G : GS) (hG : GI G) (hB : BT M X A G) (x y z : Int32) : Ct l Θ y_Bchild 6 0 0 [.ref X, .int x, .int y, .int z] M (pI fun r M1 => r = aChd G x y z ∧ M1 = M) := by
  have hB0 := hB
  obtain ⟨⟨⟨a1, a2, a3, a4, a5, a6⟩, ⟨b1, b2⟩, ⟨c1, c2, c3, c4⟩, ⟨e1, e2, e3, e4⟩⟩, hRw, hGl, hNd⟩ := hB
  have hn300 := hG.1.1
  have hsz := b1.len
  rw [rwL_len] at hsz
  refine Ct.start (cc := b_Bchild) (nL := 5) (ret := (some .int)) [some (.ref X), some (.int x), some (.int y), some (.int z), none] mi_Bchild.1 (by decide +kernel) (by intro v hv; simp at hv; rcases hv with rfl | rfl | rfl | rfl <;> rfl) (by simp) rfl (fun p e s m args below meth c hC => ?_)
  refine r_iload_n hC 1 d_Bchild_0 rfl rfl ?_
  refine r_iconst hC 4 d_Bchild_1 (by decide) ?_
  refine r_cSi hC [.int x, .int (nI 4)] rfl (c_BisIn l Θ M x 4 (by omega)) mi_BisIn lk_B56 in_BisIn rfl (Nat.le_of_ble_eq_true rfl) ⟨Nat.le_of_ble_eq_true rfl, Nat.le_of_ble_eq_true rfl⟩ ⟨Nat.le_of_ble_eq_true rfl, Nat.le_of_ble_eq_true rfl⟩ d_Bchild_2 (fun r M1 h1 => ?_)
  obtain ⟨rfl, rfl⟩ := h1
  rcases ix_cases 4 x (by omega) with ⟨k, hk, rfl, e0⟩ | ⟨-, e0⟩
  · rw [e0]
    obtain ⟨hX, -, -, -, -, -⟩ := hNd k hk
    have hT := hX.1.1
    have hP : PA M1 (nA (bD A k)) (nC (bD A k)) (tr G k) (vC (qD G k)) := hX.2.1
    have hW := hG.wf hk
    have ea : aChd G (nI k) y z = if y = -1 then chF (tr G k) 40 z else (match plF G (nI k) y with
      | none => -1
      | some q => chF (tr G k) q.2 z) := by unfold aChd; rw [e0]
    rw [ea]
    refine r_if_ne hC 10 d_Bchild_5 (by decide) (fun _ => ?_) (fun z => absurd z i10)
    have fin : ∀ (o : Nat) (v : Int32), o ≤ 40 → v = chF (tr G k) o z → Gj p l e (rmo 6 0 0) s m args below meth c Θ M1 [some (.ref X), some (.int (nI k)), some (.int y), some (.int z), none] 0 0 (Fn below args s Θ 0 0 (pI fun r M2 => r = v ∧ M2 = M1)) 33 [.ref (nA (bD A k) o)] := by
      intro o v ho hv
      subst hv
      obtain ⟨p1, p2, p3, p4, p5, p6⟩ := hP.1 o ho
      have hLs := hP.2.1 o ho
      have hlsz := hLs.len
      rw [List.length_map] at hlsz
      have hkl := hW.klen o
      refine r_as4 hC d_Bchild_33 ?_
      refine r_aload hC 4 d_Bchild_35 rfl ?_
      refine r_ifnull hC (r := some (nA (bD A k) o)) 55 d_Bchild_37 (by decide) (fun q => by cases q) (fun _ _ => ?_)
      refine r_iload_n hC 3 d_Bchild_40 rfl rfl ?_
      refine r_aload hC 4 d_Bchild_41 rfl ?_
      refine r_getS hC 1 1 33 fl_B139 (by exact p1) d_Bchild_43 rfl rfl (by exact p3) ?_
      refine r_cVi hC [] rfl (c_Asize l Θ M1 _ hLs.1) mi_Asize lk_B33 in_Asize (ci := 6) rfl rfl (by exact hLs.1) rfl (Nat.le_of_ble_eq_true rfl) ⟨Nat.le_of_ble_eq_true rfl, Nat.le_of_ble_eq_true rfl⟩ ⟨Nat.le_of_ble_eq_true rfl, Nat.le_of_ble_eq_true rfl⟩ d_Bchild_46 (fun r M2 h2 => ?_)
      obtain ⟨rfl, rfl⟩ := h2
      rw [hlsz]
      refine r_cSi hC [.int z, .int (nI (ki (tr G k) o).length)] rfl (c_BisIn l Θ M2 z (ki (tr G k) o).length (by omega)) mi_BisIn lk_B56 in_BisIn rfl (Nat.le_of_ble_eq_true rfl) ⟨Nat.le_of_ble_eq_true rfl, Nat.le_of_ble_eq_true rfl⟩ ⟨Nat.le_of_ble_eq_true rfl, Nat.le_of_ble_eq_true rfl⟩ d_Bchild_49 (fun r M3 h3 => ?_)
      obtain ⟨rfl, rfl⟩ := h3
      rcases ix_cases (ki (tr G k) o).length z (by omega) with ⟨i, hi, rfl, ei⟩ | ⟨-, ei⟩
      · have ec : chF (tr G k) o (nI i) = nI ((ki (tr G k) o)[i]?.getD 0) := by unfold chF; rw [ei]
        obtain ⟨y2, hy2, hy3⟩ := get_some (l := ki (tr G k) o) (i := i) hi
        have hy40 := (hW.klt hy3).1
        have o32 := (hP.1 y2 (by omega)).2.1
        have oq : oI y2 = nI y2 := if_neg (by omega)
        rw [oq] at o32
        rw [ec, hy2, ei]
        refine r_if_ne hC 59 d_Bchild_52 (by decide) (fun _ => ?_) (fun z => absurd z i10)
        refine r_aload hC 4 d_Bchild_59 rfl ?_
        refine r_getS hC 1 1 33 fl_B139 (by exact p1) d_Bchild_61 rfl rfl (by exact p3) ?_
        refine r_iload_n hC 3 d_Bchild_64 rfl rfl ?_
        refine r_cVr hC [.int (nI i)] rfl (c_Aget l Θ M3 _ i _ _ hLs (by simp; omega)) mi_Aget lk_B70 in_Aget (ci := 6) rfl rfl (by exact hLs.1) rfl (Nat.le_of_ble_eq_true rfl) ⟨Nat.le_of_ble_eq_true rfl, Nat.le_of_ble_eq_true rfl⟩ ⟨Nat.le_of_ble_eq_true rfl, Nat.le_of_ble_eq_true rfl⟩ d_Bchild_65 (fun r M4 h4 => ?_)
        obtain ⟨rfl, rfl⟩ := h4
        rw [map_get hy2]
        refine r_cast hC 1 rfl (hP.kp (o := y2) (by omega)) cl_B113 ca_PP d_Bchild_68 ?_
        refine r_getI hC 1 0 32 fl_B130 (by exact hP.kp (by omega)) d_Bchild_71 rfl rfl (by exact o32) ?_
        exact r_iret hC d_Bchild_74 (Nat.le_refl _) (Nat.le_refl _) ⟨_, rfl, rfl, rfl⟩
      · have ec : chF (tr G k) o z = -1 := by unfold chF; rw [ei]
        rw [ec, ei]
        refine r_if_ne hC 59 d_Bchild_52 (by decide) (fun z => absurd rfl z) (fun _ => ?_)
        refine r_iconst hC (-1) d_Bchild_55 (by decide) ?_
        refine r_goto hC 74 d_Bchild_56 (by decide) ?_
        exact r_iret hC d_Bchild_74 (Nat.le_refl _) (Nat.le_refl _) ⟨_, rfl, rfl, rfl⟩
    refine r_iload_n hC 2 d_Bchild_10 rfl rfl ?_
    refine r_iconst hC (-1) d_Bchild_11 (by decide) ?_
    refine r_icmp_ne hC 27 d_Bchild_12 (by decide) (fun hy => ?_) (fun hy => ?_)
    · rw [if_neg hy]
      refine r_aload_n hC 0 d_Bchild_27 rfl rfl ?_
      refine r_iload_n hC 1 d_Bchild_28 rfl rfl ?_
      refine r_iload_n hC 2 d_Bchild_29 rfl rfl ?_
      refine r_cVr hC [.int (nI k), .int y] rfl (c_Bplace l Θ M1 X A G hG hB0 (nI k) y) mi_Bplace lk_B118 in_Bplace (ci := 0) rfl rfl (by exact a1) rfl (Nat.le_of_ble_eq_true rfl) ⟨Nat.le_of_ble_eq_true rfl, Nat.le_of_ble_eq_true rfl⟩ ⟨Nat.le_of_ble_eq_true rfl, Nat.le_of_ble_eq_true rfl⟩ d_Bchild_30 (fun r M2 h2 => ?_)
      obtain ⟨rfl, rfl⟩ := h2
      rcases plF_cases G (nI k) y with ⟨k2, o, hk2, ho, ek, rfl, hth, ep⟩ | ep
      · have := (nI_eq (by omega) (by omega)).mp ek
        subst this
        rw [ep]
        exact fin o _ (by omega) rfl
      · rw [ep]
        refine r_aq4 hC d_Bchild_33 ?_
        refine r_aloadQ hC 4 d_Bchild_35 rfl ?_
        refine r_ifnull hC (r := none) 55 d_Bchild_37 (by decide) (fun _ => ?_) (fun _ q => by cases q)
        refine r_iconst hC (-1) d_Bchild_55 (by decide) ?_
        refine r_goto hC 74 d_Bchild_56 (by decide) ?_
        exact r_iret hC d_Bchild_74 (Nat.le_refl _) (Nat.le_refl _) ⟨_, rfl, rfl, rfl⟩
    · rw [if_pos hy]
      refine r_aload_n hC 0 d_Bchild_15 rfl rfl ?_
      refine r_getS hC 0 1 1 fl_B18 (by exact a1) d_Bchild_16 rfl rfl (by exact a4) ?_
      refine r_iload_n hC 1 d_Bchild_19 rfl rfl ?_
      refine r_aaldS hC 5 k (by rw [c1]; rfl) (by omega) rfl (by rw [c3]; exact hk) (by rw [c3]; omega) d_Bchild_20 (c4 k hk) ?_
      refine r_getS hC 4 2 130 fl_B149 (by exact hT.1) d_Bchild_21 rfl rfl (by exact hT.2.2.1) ?_
      refine r_goto hC 33 d_Bchild_24 (by decide) ?_
      exact fin 40 _ (by omega) rfl
  · have ea : aChd G x y z = -1 := by unfold aChd; rw [e0]
    rw [e0, ea]
    refine r_if_ne hC 10 d_Bchild_5 (by decide) (fun z => absurd rfl z) (fun _ => ?_)
    refine r_iconst hC (-1) d_Bchild_8 (by decide) ?_
    exact r_iret hC d_Bchild_9 (Nat.le_refl _) (Nat.le_refl _) ⟨_, rfl, rfl, rfl⟩
noncomputable def acF (R : Nat → RowT) (N : NS) (i : Nat) : Bool := (gR (vU N i) (rn R (vU N) tS0 ((vN N).take ((vN N).idxOf i))) (R i)).2
noncomputable def hwF (R : Nat → RowT) (N : NS) (i : Nat) : Nat := if vK N i = true then (if rS (R i) = 4 then 1 else if vU N i = true then 3 else if acF R N i = true then 1 else 2) else 0
noncomputable def aJud (G : GS) (x y : Int32) : Int32 := match ix 4 x, rx (qN G) y with
  | some k, some i => nI (hwF (qR G) (qD G k) i)
  | _, _ => -1
theorem c_Bjudged (l : Launch) (Θ : Glob) (M : Mem) (X : Nat) (A : BA) (G : GS) (hG : GI G) (hB : BT M X A G) (x y : Int32) : Ct l Θ y_Bjudged 5 0 0 [.ref X, .int x, .int y] M (pI fun r M1 => r = aJud G x y ∧ M1 = M) := by
  have hB0 := hB
  obtain ⟨⟨⟨a1, a2, a3, a4, a5, a6⟩, ⟨b1, b2⟩, ⟨c1, c2, c3, c4⟩, ⟨e1, e2, e3, e4⟩⟩, hRw, hGl, hNd⟩ := hB
  have hn300 := hG.1.1
  have hsz := b1.len
  rw [rwL_len] at hsz
  refine Ct.start (cc := b_Bjudged) (nL := 4) (ret := (some .int)) [some (.ref X), some (.int x), some (.int y), none] mi_Bjudged.1 (by decide +kernel) (by intro v hv; simp at hv; rcases hv with rfl | rfl | rfl <;> rfl) (by simp) rfl (fun p e s m args below meth c hC => ?_)
  refine r_iload_n hC 1 d_Bjudged_0 rfl rfl ?_
  refine r_iconst hC 4 d_Bjudged_1 (by decide) ?_
  refine r_cSi hC [.int x, .int (nI 4)] rfl (c_BisIn l Θ M x 4 (by omega)) mi_BisIn lk_B56 in_BisIn rfl (Nat.le_of_ble_eq_true rfl) ⟨Nat.le_of_ble_eq_true rfl, Nat.le_of_ble_eq_true rfl⟩ ⟨Nat.le_of_ble_eq_true rfl, Nat.le_of_ble_eq_true rfl⟩ d_Bjudged_2 (fun r M1 h1 => ?_)
  obtain ⟨rfl, rfl⟩ := h1
  rcases ix_cases 4 x (by omega) with ⟨k, hk, rfl, e⟩ | ⟨-, e⟩
  · rw [e]
    refine r_if_eq hC 16 d_Bjudged_5 (by decide) (fun z => absurd z i10) (fun _ => ?_)
    refine r_aload_n hC 0 d_Bjudged_8 rfl rfl ?_
    refine r_iload_n hC 2 d_Bjudged_9 rfl rfl ?_
    refine r_cVi hC [.int y] rfl (c_BisRow l Θ M1 X A G hG hB0 y) mi_BisRow lk_B66 in_BisRow (ci := 0) rfl rfl (by exact a1) rfl (Nat.le_of_ble_eq_true rfl) ⟨Nat.le_of_ble_eq_true rfl, Nat.le_of_ble_eq_true rfl⟩ ⟨Nat.le_of_ble_eq_true rfl, Nat.le_of_ble_eq_true rfl⟩ d_Bjudged_10 (fun r M2 h2 => ?_)
    obtain ⟨rfl, rfl⟩ := h2
    rcases rx_cases (qN G) y (by omega) with ⟨i, hi1, hin, rfl, e2'⟩ | ⟨-, e2'⟩
    · have ea : aJud G (nI k) (nI i) = nI (hwF (qR G) (qD G k) i) := by unfold aJud; rw [e, e2']
      rw [e2', ea]
      obtain ⟨hX, hK, hU, -, hS, hns⟩ := hNd k hk
      have hT := hX.1.1
      refine r_if_ne hC 18 d_Bjudged_13 (by decide) (fun _ => ?_) (fun z => absurd z i10)
      refine r_aload_n hC 0 d_Bjudged_18 rfl rfl ?_
      refine r_getS hC 0 1 1 fl_B18 (by exact a1) d_Bjudged_19 rfl rfl (by exact a4) ?_
      refine r_iload_n hC 1 d_Bjudged_22 rfl rfl ?_
      refine r_aaldS hC 5 k (by rw [c1]; rfl) (by omega) rfl (by rw [c3]; exact hk) (by rw [c3]; omega) d_Bjudged_23 (c4 k hk) ?_
      refine r_getS hC 4 4 132 fl_B80 (by exact hT.1) d_Bjudged_24 rfl rfl (by exact hT.2.2.2.2.1) ?_
      refine r_iload_n hC 2 d_Bjudged_27 rfl rfl ?_
      have hkv := hK.2.2.2 i (by omega)
      cases hkn : vK (qD G k) i with
      | false =>
        have ev : hwF (qR G) (qD G k) i = 0 := by unfold hwF; rw [hkn]; rfl
        rw [hkn] at hkv
        have hkv : eR M2 (nK (bD A k)) i = none := hkv
        refine r_aald hC 4 i (by rw [hK.1]; rfl) (by omega) rfl (by rw [hK.2.1]; omega) (by rw [hK.2.1]; omega) d_Bjudged_28 hkv ?_
        refine r_aq3 hC d_Bjudged_29 ?_
        refine r_aload_nQ hC 3 d_Bjudged_30 rfl rfl ?_
        refine r_ifnonnull hC (r := none) 36 d_Bjudged_31 (by decide) (fun _ q => by cases q) (fun _ => ?_)
        refine r_iconst hC 0 d_Bjudged_34 (by decide) ?_
        exact r_iret hC d_Bjudged_35 (Nat.le_refl _) (Nat.le_refl _) ⟨_, rfl, by rw [ev]; rfl, rfl⟩
      | true =>
        rw [hkn] at hkv
        have hkv : eR M2 (nK (bD A k)) i = some (bS A k i) := hkv
        obtain ⟨-, s2, s3, s4⟩ := hS.1 i hkn
        have hr := hRw i hi1 hin
        have h5 := (hG.1.2.1 i).2.2
        refine r_aaldS hC 4 i (by rw [hK.1]; rfl) (by omega) rfl (by rw [hK.2.1]; omega) (by rw [hK.2.1]; omega) d_Bjudged_28 hkv ?_
        refine r_as3 hC d_Bjudged_29 ?_
        refine r_aload_n hC 3 d_Bjudged_30 rfl rfl ?_
        refine r_ifnonnull hC (r := some (bS A k i)) 36 d_Bjudged_31 (by decide) (fun _ _ => ?_) (fun q => by cases q)
        refine r_aload_n hC 3 d_Bjudged_36 rfl rfl ?_
        refine r_getS hC 3 0 96 fl_B162 (by exact s2) d_Bjudged_37 rfl rfl (by exact s4) ?_
        refine r_cVi hC [] rfl (c_Rsort l Θ M2 (bR A i) hr.1) mi_Rsort lk_B77 in_Rsort (ci := 2) rfl rfl (by exact hr.1) rfl (Nat.le_of_ble_eq_true rfl) ⟨Nat.le_of_ble_eq_true rfl, Nat.le_of_ble_eq_true rfl⟩ ⟨Nat.le_of_ble_eq_true rfl, Nat.le_of_ble_eq_true rfl⟩ d_Bjudged_40 (fun r M3 h3 => ?_)
        obtain ⟨rfl, rfl⟩ := h3
        rw [hr.2.2.2.2.1]
        refine r_iconst hC 4 d_Bjudged_43 (by decide) ?_
        by_cases hs4 : rS (qR G i) = 4
        · have ev : hwF (qR G) (qD G k) i = 1 := by unfold hwF; rw [if_pos hkn, if_pos hs4]
          refine r_icmp_ne hC 49 d_Bjudged_44 (by decide) (fun z => absurd (by rw [hs4]; rfl) z) (fun _ => ?_)
          refine r_iconst hC 1 d_Bjudged_47 (by decide) ?_
          exact r_iret hC d_Bjudged_48 (Nat.le_refl _) (Nat.le_refl _) ⟨_, rfl, by rw [ev]; rfl, rfl⟩
        · refine r_icmp_ne hC 49 d_Bjudged_44 (by decide) (fun _ => ?_) (fun z => absurd ((nI_eq (b := 4) (by omega) (by omega)).mp z) hs4)
          have him : i ∈ vN (qD G k) := (hns i).mpr ⟨hkn, hs4⟩
          have hix : (vN (qD G k)).idxOf i < (vN (qD G k)).length := List.idxOf_lt_length_of_mem him
          have hsp : vN (qD G k) = (vN (qD G k)).take ((vN (qD G k)).idxOf i) ++ i :: (vN (qD G k)).drop ((vN (qD G k)).idxOf i + 1) := by
            have : (vN (qD G k)).drop ((vN (qD G k)).idxOf i) = i :: (vN (qD G k)).drop ((vN (qD G k)).idxOf i + 1) := by rw [List.drop_eq_getElem_cons hix, List.getElem_idxOf hix]
            rw [← this, List.take_append_drop]
          have h97 := (hX.1.2.2.1 i him).2.2.1
          have h98 := (hX.2.2.2.1 _ i _ hsp).2.1
          have h98 : fI M3 98 (bS A k i) = b2i (acF (qR G) (qD G k) i) := h98
          refine r_aload_n hC 3 d_Bjudged_49 rfl rfl ?_
          refine r_getI hC 3 1 97 fl_B168 (by exact s2) d_Bjudged_50 rfl rfl (by exact h97) ?_
          refine r_if_eq hC 60 d_Bjudged_53 (by decide) (fun z => ?_) (fun z => ?_)
          · have hu := b2i_eq z
            refine r_aload_n hC 3 d_Bjudged_60 rfl rfl ?_
            refine r_getI hC 3 2 98 fl_B171 (by exact s2) d_Bjudged_61 rfl rfl (by exact h98) ?_
            refine r_if_eq hC 71 d_Bjudged_64 (by decide) (fun z2 => ?_) (fun z2 => ?_)
            · have ev : hwF (qR G) (qD G k) i = 2 := by unfold hwF; rw [if_pos hkn, if_neg hs4, hu, b2i_eq z2]; rfl
              refine r_iconst hC 2 d_Bjudged_71 (by decide) ?_
              exact r_iret hC d_Bjudged_72 (Nat.le_refl _) (Nat.le_refl _) ⟨_, rfl, by rw [ev]; rfl, rfl⟩
            · have ev : hwF (qR G) (qD G k) i = 1 := by unfold hwF; rw [if_pos hkn, if_neg hs4, hu, b2i_ne z2]; rfl
              refine r_iconst hC 1 d_Bjudged_67 (by decide) ?_
              refine r_goto hC 72 d_Bjudged_68 (by decide) ?_
              exact r_iret hC d_Bjudged_72 (Nat.le_refl _) (Nat.le_refl _) ⟨_, rfl, by rw [ev]; rfl, rfl⟩
          · have ev : hwF (qR G) (qD G k) i = 3 := by unfold hwF; rw [if_pos hkn, if_neg hs4, if_pos (b2i_ne z)]
            refine r_iconst hC 3 d_Bjudged_56 (by decide) ?_
            refine r_goto hC 72 d_Bjudged_57 (by decide) ?_
            exact r_iret hC d_Bjudged_72 (Nat.le_refl _) (Nat.le_refl _) ⟨_, rfl, by rw [ev]; rfl, rfl⟩
    · have ea : aJud G (nI k) y = -1 := by unfold aJud; rw [e, e2']
      rw [e2', ea]
      refine r_if_ne hC 18 d_Bjudged_13 (by decide) (fun z => absurd rfl z) (fun _ => ?_)
      refine r_iconst hC (-1) d_Bjudged_16 (by decide) ?_
      exact r_iret hC d_Bjudged_17 (Nat.le_refl _) (Nat.le_refl _) ⟨_, rfl, rfl, rfl⟩
  · have ea : aJud G x y = -1 := by unfold aJud; rw [e]
    rw [e, ea]
    refine r_if_eq hC 16 d_Bjudged_5 (by decide) (fun _ => ?_) (fun z => absurd rfl z)
    refine r_iconst hC (-1) d_Bjudged_16 (by decide) ?_
    exact r_iret hC d_Bjudged_17 (Nat.le_refl _) (Nat.le_refl _) ⟨_, rfl, rfl, rfl⟩
def thN (S : TS) (n : Nat) : Nat := ((List.range n).filter (th S)).length
theorem thN_s (S : TS) (n : Nat) : thN S (n + 1) = thN S n + (if th S n = true then 1 else 0) := by
  unfold thN
  rw [List.range_succ, List.filter_append, List.length_append]
  congr 1
  by_cases h : th S n = true
  · rw [if_pos h, List.filter_cons_of_pos h]; rfl
  · rw [if_neg h, List.filter_cons_of_neg h]; rfl
theorem thN_le (S : TS) (n : Nat) : thN S n ≤ n := by
  unfold thN
  have := List.length_filter_le (th S) (List.range n)
  rw [List.length_range] at this
  exact this
theorem c_Tthere (l : Launch) (Θ : Glob) (M : Mem) (pa li : Nat → Nat) (S : TS) (cp : Nat → Nat) (hP : PA M pa li S cp) (T P SL KN UD : Nat) (hT : TrO M T P SL KN UD pa) : Ct l Θ y_Tthere 1 0 0 [.ref T] M (pI fun r M1 => r = nI (thN S 40) ∧ M1 = M) := by
  refine Ct.start (cc := b_Tthere) (nL := 6) (ret := (some .int)) [some (.ref T), none, none, none, none, none] mi_Tthere.1 (by decide +kernel) (by intro v hv; simp at hv; rcases hv with rfl <;> rfl) (by simp) rfl (fun p e s m args below meth c hC => ?_)
  have loop : ∀ (n i : Nat) (a5 : Option Value), i + n = 40 → Gj p l e (rmo 1 0 0) s m args below meth c Θ M [some (.ref T), some (.int (nI (thN S i))), some (.ref P), some (.int (nI 40)), some (.int (nI i)), a5] 0 0 (Fn below args s Θ 0 0 (pI fun r M1 => r = nI (thN S 40) ∧ M1 = M)) 13 [] := by
    intro n
    induction n with
    | zero =>
      intro i a5 hi
      have hi : i = 40 := hi
      subst hi
      refine r_iload hC 4 d_Tthere_13 rfl ?_
      refine r_iload_n hC 3 d_Tthere_15 rfl rfl ?_
      refine r_icmp_ge hC 47 d_Tthere_16 (by decide) (fun _ => ?_) (fun z => absurd (Int32.le_refl _) z)
      refine r_iload_n hC 1 d_Tthere_47 rfl rfl ?_
      exact r_iret hC d_Tthere_48 (Nat.le_refl _) (Nat.le_refl _) ⟨_, rfl, rfl, rfl⟩
    | succ n ih =>
      intro i a5 hi
      have h36 := (hP.1 i (by omega)).2.2.2.2.2
      have ths := thN_s S i
      refine r_iload hC 4 d_Tthere_13 rfl ?_
      refine r_iload_n hC 3 d_Tthere_15 rfl rfl ?_
      refine r_icmp_ge hC 47 d_Tthere_16 (by decide) (fun z => absurd z (nI_ge (by omega) (by omega))) (fun _ => ?_)
      refine r_aload_n hC 2 d_Tthere_19 rfl rfl ?_
      refine r_iload hC 4 d_Tthere_20 rfl ?_
      refine r_aaldS hC 3 i (by rw [hT.2.2.2.2.2.2.1]; rfl) (by omega) rfl (by rw [hT.2.2.2.2.2.2.2.1]; omega) (by rw [hT.2.2.2.2.2.2.2.1]; omega) d_Tthere_22 (hT.2.2.2.2.2.2.2.2 i (by omega)) ?_
      refine r_as5 hC d_Tthere_23 ?_
      refine r_iload_n hC 1 d_Tthere_25 rfl rfl ?_
      refine r_aload hC 5 d_Tthere_26 rfl ?_
      refine r_getI hC 1 4 36 fl_T45 (by exact hP.kp (by omega)) d_Tthere_28 rfl rfl (by exact h36) ?_
      refine r_if_eq hC 38 d_Tthere_31 (by decide) (fun z => ?_) (fun z => ?_)
      · rw [b2i_eq z] at ths
        have ths : thN S (i + 1) = thN S i + 0 := ths
        refine r_iconst hC 0 d_Tthere_38 (by decide) ?_
        refine r_iadd hC (nI (thN S (i + 1))) d_Tthere_39 (by rw [ths]; exact nI_add (thN S i) 0) ?_
        refine r_is1 hC d_Tthere_40 ?_
        refine r_ii4 hC (nI (i + 1)) d_Tthere_41 (nI_1 _) ?_
        refine r_goto hC 13 d_Tthere_44 (by decide) ?_
        exact ih (i + 1) _ (by omega)
      · rw [b2i_ne z] at ths
        have ths : thN S (i + 1) = thN S i + 1 := ths
        refine r_iconst hC 1 d_Tthere_34 (by decide) ?_
        refine r_goto hC 39 d_Tthere_35 (by decide) ?_
        refine r_iadd hC (nI (thN S (i + 1))) d_Tthere_39 (by rw [ths]; exact nI_add (thN S i) 1) ?_
        refine r_is1 hC d_Tthere_40 ?_
        refine r_ii4 hC (nI (i + 1)) d_Tthere_41 (nI_1 _) ?_
        refine r_goto hC 13 d_Tthere_44 (by decide) ?_
        exact ih (i + 1) _ (by omega)
  refine r_iconst hC 0 d_Tthere_0 (by decide) ?_
  refine r_is1 hC d_Tthere_1 ?_
  refine r_aload_n hC 0 d_Tthere_2 rfl rfl ?_
  refine r_getS hC 4 1 129 fl_T11 (by exact hT.1) d_Tthere_3 rfl rfl (by exact hT.2.1) ?_
  refine r_as2 hC d_Tthere_6 ?_
  refine r_aload_n hC 2 d_Tthere_7 rfl rfl ?_
  refine r_alen hC (Or.inl ⟨3, by rw [hT.2.2.2.2.2.2.1]; rfl⟩) d_Tthere_8 hT.2.2.2.2.2.2.2.1 ?_
  refine r_is3 hC d_Tthere_9 ?_
  refine r_iconst hC 0 d_Tthere_10 (by decide) ?_
  refine r_is4 hC d_Tthere_11 ?_
  exact loop 40 0 _ rfl
noncomputable def ttF (G : GS) (a k : Nat) : Int32 := if a = 1 then nI (vM (qD G k)) else if a = 2 then nI (vT (qD G k)) else if a = 3 then nI (thN (tr G k) 40) else nI (ki (tr G k) 40).length
noncomputable def aTot (G : GS) (x : Int32) : Int32 := match ix 50 x with
  | none => -1
  | some j => if j = 0 then nI (qN G) else if j = 1 then nI (qO G) else if 10 ≤ j ∧ j % 10 < 4 then ttF G (j / 10) (j % 10) else -1
theorem c_Btotal (l : Launch) (Θ : Glob) (M : Mem) (X : Nat) (A : BA) (G : GS) (hG : GI G) (hB : BT M X A G) (x : Int32) : Ct l Θ y_Btotal 3 0 0 [.ref X, .int x] M (pI fun r M1 => r = aTot G x ∧ M1 = M) := by
  have hB0 := hB
  obtain ⟨⟨⟨a1, a2, a3, a4, a5, a6⟩, ⟨b1, b2⟩, ⟨c1, c2, c3, c4⟩, ⟨e1, e2, e3, e4⟩⟩, hRw, hGl, hNd⟩ := hB
  have hn300 := hG.1.1
  have hsz := b1.len
  rw [rwL_len] at hsz
  refine Ct.start (cc := b_Btotal) (nL := 5) (ret := (some .int)) [some (.ref X), some (.int x), none, none, none] mi_Btotal.1 (by decide +kernel) (by intro v hv; simp at hv; rcases hv with rfl | rfl <;> rfl) (by simp) rfl (fun p e s m args below meth c hC => ?_)
  have no : ∀ (v : Int32) (w1 : Option Value), (x = 0 → aTot G x = nI (qN G)) → (x = 1 → aTot G x = nI (qO G)) → (x ≠ 0 → x ≠ 1 → aTot G x = -1) → Gj p l e (rmo 3 0 0) s m args below meth c Θ M [some (.ref X), some (.int x), some (.int v), w1, none] 0 0 (Fn below args s Θ 0 0 (pI fun r M1 => r = aTot G x ∧ M1 = M)) 26 [] := by
    intro v w1 h0 h1 h2
    refine r_iconst hC 0 d_Btotal_26 (by decide) ?_
    refine r_is3 hC d_Btotal_27 ?_
    refine r_iload_n hC 3 d_Btotal_28 rfl rfl ?_
    refine r_if_ne hC 60 d_Btotal_29 (by decide) (fun z => absurd rfl z) (fun _ => ?_)
    refine r_iload_n hC 1 d_Btotal_32 rfl rfl ?_
    refine r_if_ne hC 46 d_Btotal_33 (by decide) (fun z => ?_) (fun z => ?_)
    · skip
      refine r_iload_n hC 1 d_Btotal_46 rfl rfl ?_
      refine r_iconst hC 1 d_Btotal_47 (by decide) ?_
      refine r_icmp_ne hC 58 d_Btotal_48 (by decide) (fun z2 => ?_) (fun z2 => ?_)
      · rw [h2 z z2]
        refine r_iconst hC (-1) d_Btotal_58 (by decide) ?_
        exact r_iret hC d_Btotal_59 (Nat.le_refl _) (Nat.le_refl _) ⟨_, rfl, rfl, rfl⟩
      · rw [h1 z2]
        refine r_aload_n hC 0 d_Btotal_51 rfl rfl ?_
        refine r_getI hC 0 3 3 fl_B26 (by exact a1) d_Btotal_52 rfl rfl (by exact a6) ?_
        refine r_goto hC 59 d_Btotal_55 (by decide) ?_
        exact r_iret hC d_Btotal_59 (Nat.le_refl _) (Nat.le_refl _) ⟨_, rfl, rfl, rfl⟩
    · rw [h0 z]
      refine r_aload_n hC 0 d_Btotal_36 rfl rfl ?_
      refine r_getS hC 0 0 0 fl_B10 (by exact a1) d_Btotal_37 rfl rfl (by exact a3) ?_
      refine r_cVi hC [] rfl (c_Asize l Θ M (bL A) b1.1) mi_Asize lk_B33 in_Asize (ci := 6) rfl rfl (by exact b1.1) rfl (Nat.le_of_ble_eq_true rfl) ⟨Nat.le_of_ble_eq_true rfl, Nat.le_of_ble_eq_true rfl⟩ ⟨Nat.le_of_ble_eq_true rfl, Nat.le_of_ble_eq_true rfl⟩ d_Btotal_40 (fun r M2 h3 => ?_)
      obtain ⟨rfl, rfl⟩ := h3
      rw [hsz]
      refine r_goto hC 59 d_Btotal_43 (by decide) ?_
      exact r_iret hC d_Btotal_59 (Nat.le_refl _) (Nat.le_refl _) ⟨_, rfl, rfl, rfl⟩
  rcases ix_cases 50 x (by omega) with ⟨j, hj, rfl, e⟩ | ⟨hx, e⟩
  · have ea : aTot G (nI j) = if j = 0 then nI (qN G) else if j = 1 then nI (qO G) else if 10 ≤ j ∧ j % 10 < 4 then ttF G (j / 10) (j % 10) else -1 := by unfold aTot; rw [e]
    refine r_iload_n hC 1 d_Btotal_0 rfl rfl ?_
    refine r_bipush hC 10 d_Btotal_1 (by decide) ?_
    refine r_irem hC (nI (j % 10)) d_Btotal_3 (by decide) (pk_rem (d := 10) (by omega) (by omega) (by omega)) ?_
    refine r_is2 hC d_Btotal_4 ?_
    refine r_iload_n hC 1 d_Btotal_5 rfl rfl ?_
    refine r_bipush hC 10 d_Btotal_6 (by decide) ?_
    refine r_icmp_lt hC 26 d_Btotal_8 (by decide) (fun z => ?_) (fun z => ?_)
    · have hj10 : j < 10 := (nI_ltI (b := 10) (by omega) (by omega)).mp z
      refine no _ _ (fun q => ?_) (fun q => ?_) (fun q1 q2 => ?_)
      · rw [ea, if_pos ((nI_eq (b := 0) (by omega) (by omega)).mp q)]
      · have := (nI_eq (b := 1) (by omega) (by omega)).mp q
        rw [ea, if_neg (by omega), if_pos this]
      · rw [ea, if_neg (fun w => q1 (by rw [w]; rfl)), if_neg (fun w => q2 (by rw [w]; rfl)), if_neg (fun w => by omega)]
    · have hj10 : ¬ j < 10 := fun w => z ((nI_ltI (b := 10) (by omega) (by omega)).mpr w)
      refine r_iload_n hC 1 d_Btotal_11 rfl rfl ?_
      refine r_bipush hC 50 d_Btotal_12 (by decide) ?_
      refine r_icmp_ge hC 26 d_Btotal_14 (by decide) (fun z2 => absurd z2 (nI_ge (b := 50) hj (by omega))) (fun _ => ?_)
      refine r_iload_n hC 2 d_Btotal_17 rfl rfl ?_
      refine r_iconst hC 4 d_Btotal_18 (by decide) ?_
      refine r_icmp_ge hC 26 d_Btotal_19 (by decide) (fun z2 => ?_) (fun z2 => ?_)
      · have hm : 4 ≤ j % 10 := (nI_leI (a := 4) (by omega) (by omega)).mp z2
        refine no _ _ (fun q => ?_) (fun q => ?_) (fun q1 q2 => ?_)
        · have := (nI_eq (b := 0) (by omega) (by omega)).mp q
          omega
        · have := (nI_eq (b := 1) (by omega) (by omega)).mp q
          omega
        · rw [ea, if_neg (fun w => q1 (by rw [w]; rfl)), if_neg (fun w => q2 (by rw [w]; rfl)), if_neg (fun w => by omega)]
      · have hk : j % 10 < 4 := by
          rcases Nat.lt_or_ge (j % 10) 4 with q | q
          · exact q
          · exact absurd (nI_le (a := 4) q (by omega)) z2
        rw [ea, if_neg (by omega), if_neg (by omega), if_pos ⟨by omega, hk⟩]
        obtain ⟨hX, -, -, ⟨m1, m2, m3⟩, -, -⟩ := hNd _ hk
        have hT := hX.1.1
        have hP : PA M (nA (bD A (j % 10))) (nC (bD A (j % 10))) (tr G (j % 10)) (vC (qD G (j % 10))) := hX.2.1
        obtain ⟨p1, p2, p3, p4, p5, p6⟩ := hP.1 40 (by omega)
        have hLs := hP.2.1 40 (by omega)
        have hlsz := hLs.len
        rw [List.length_map] at hlsz
        refine r_iconst hC 1 d_Btotal_22 (by decide) ?_
        refine r_goto hC 27 d_Btotal_23 (by decide) ?_
        refine r_is3 hC d_Btotal_27 ?_
        refine r_iload_n hC 3 d_Btotal_28 rfl rfl ?_
        refine r_if_ne hC 60 d_Btotal_29 (by decide) (fun _ => ?_) (fun z => absurd z i10)
        refine r_aload_n hC 0 d_Btotal_60 rfl rfl ?_
        refine r_getS hC 0 1 1 fl_B18 (by exact a1) d_Btotal_61 rfl rfl (by exact a4) ?_
        refine r_iload_n hC 2 d_Btotal_64 rfl rfl ?_
        refine r_aaldS hC 5 (j % 10) (by rw [c1]; rfl) (by omega) rfl (by rw [c3]; exact hk) (by rw [c3]; omega) d_Btotal_65 (c4 _ hk) ?_
        refine r_as4 hC d_Btotal_66 ?_
        refine r_iload_n hC 1 d_Btotal_68 rfl rfl ?_
        refine r_bipush hC 10 d_Btotal_69 (by decide) ?_
        refine r_idiv hC (nI (j / 10)) d_Btotal_71 (by decide) (pk_div (d := 10) (by omega) (by omega) (by omega)) ?_
        rcases (show j / 10 = 1 ∨ j / 10 = 2 ∨ j / 10 = 3 ∨ j / 10 = 4 by omega) with q | q | q | q
        · rw [q]
          refine r_tableIn hC 100 d_Btotal_72 (by decide) (by decide) rfl (by decide) ?_
          refine r_aload hC 4 d_Btotal_100 rfl ?_
          refine r_getI hC 4 6 134 fl_B178 (by exact hT.1) d_Btotal_102 rfl rfl (by exact m1) ?_
          exact r_iret hC d_Btotal_105 (Nat.le_refl _) (Nat.le_refl _) ⟨_, rfl, rfl, rfl⟩
        · rw [q]
          refine r_tableIn hC 106 d_Btotal_72 (by decide) (by decide) rfl (by decide) ?_
          refine r_aload hC 4 d_Btotal_106 rfl ?_
          refine r_getI hC 4 7 135 fl_B39 (by exact hT.1) d_Btotal_108 rfl rfl (by exact m2) ?_
          exact r_iret hC d_Btotal_111 (Nat.le_refl _) (Nat.le_refl _) ⟨_, rfl, rfl, rfl⟩
        · rw [q]
          refine r_tableIn hC 112 d_Btotal_72 (by decide) (by decide) rfl (by decide) ?_
          refine r_aload hC 4 d_Btotal_112 rfl ?_
          refine r_cVi hC [] rfl (c_Tthere l Θ M _ _ _ _ hP _ _ _ _ _ hT) mi_Tthere lk_B181 in_Tthere (ci := 4) rfl rfl (by exact hT.1) rfl (Nat.le_of_ble_eq_true rfl) ⟨Nat.le_of_ble_eq_true rfl, Nat.le_of_ble_eq_true rfl⟩ ⟨Nat.le_of_ble_eq_true rfl, Nat.le_of_ble_eq_true rfl⟩ d_Btotal_114 (fun r M2 h3 => ?_)
          obtain ⟨rfl, rfl⟩ := h3
          exact r_iret hC d_Btotal_117 (Nat.le_refl _) (Nat.le_refl _) ⟨_, rfl, rfl, rfl⟩
        · rw [q]
          refine r_tableOut hC 118 d_Btotal_72 (by decide) (by decide) ?_
          refine r_aload hC 4 d_Btotal_118 rfl ?_
          refine r_getS hC 4 2 130 fl_B149 (by exact hT.1) d_Btotal_120 rfl rfl (by exact hT.2.2.1) ?_
          refine r_getS hC 1 1 33 fl_B139 (by exact p1) d_Btotal_123 rfl rfl (by exact p3) ?_
          refine r_cVi hC [] rfl (c_Asize l Θ M _ hLs.1) mi_Asize lk_B33 in_Asize (ci := 6) rfl rfl (by exact hLs.1) rfl (Nat.le_of_ble_eq_true rfl) ⟨Nat.le_of_ble_eq_true rfl, Nat.le_of_ble_eq_true rfl⟩ ⟨Nat.le_of_ble_eq_true rfl, Nat.le_of_ble_eq_true rfl⟩ d_Btotal_126 (fun r M2 h3 => ?_)
          obtain ⟨rfl, rfl⟩ := h3
          exact r_iret hC d_Btotal_129 (Nat.le_refl _) (Nat.le_refl _) ⟨_, rfl, hlsz, rfl⟩
  · have ea : aTot G x = -1 := by unfold aTot; rw [e]
    have x0 : x = 0 → False := fun q => by rw [q] at hx; revert hx; decide
    have x1 : x = 1 → False := fun q => by rw [q] at hx; revert hx; decide
    refine r_iload_n hC 1 d_Btotal_0 rfl rfl ?_
    refine r_bipush hC 10 d_Btotal_1 (by decide) ?_
    refine r_irem hC _ d_Btotal_3 (by decide) rfl ?_
    refine r_is2 hC d_Btotal_4 ?_
    refine r_iload_n hC 1 d_Btotal_5 rfl rfl ?_
    refine r_bipush hC 10 d_Btotal_6 (by decide) ?_
    refine r_icmp_lt hC 26 d_Btotal_8 (by decide) (fun z => ?_) (fun z => ?_)
    · exact no _ _ (fun q => (x0 q).elim) (fun q => (x1 q).elim) (fun _ _ => ea)
    · have hx50 : nI 50 ≤ x := by
        rcases hx with q | q
        · exact absurd (Int32.lt_trans q (by decide)) z
        · exact q
      refine r_iload_n hC 1 d_Btotal_11 rfl rfl ?_
      refine r_bipush hC 50 d_Btotal_12 (by decide) ?_
      refine r_icmp_ge hC 26 d_Btotal_14 (by decide) (fun _ => ?_) (fun z2 => absurd hx50 z2)
      exact no _ _ (fun q => (x0 q).elim) (fun q => (x1 q).elim) (fun _ _ => ea)
