theorem c_MdoRestore (l : Launch) (Θ : Glob) (M : Mem) (Y : Nat) (ar : Nat → Nat) (V : Nat → Nat → Int32) (I : Nat → Int32) (hV : MV M Y ar V I) (S : TS) (hS : TV V S) (hW : WF S) (ob : Nat) (hob : I 168 = nI ob) (hob40 : ob ≤ 40) (hth : ∀ x, th S x = true → x < ob) (o : Nat) (ho0 : 0 < o) (ho : o < 40) : Ct l Θ y_MdoRestore 4 0 0 [.ref Y, .int (nI o)] M (pI (MP M Y ar V I (dRes S o))) := by
  have hto := hS.1 o ho
  refine Ct.start (cc := b_MdoRestore) (nL := 3) (ret := (some .boolean)) [some (.ref Y), some (.int (nI o)), none] mi_MdoRestore.1 (by decide +kernel) (by intro v hv; simp at hv; rcases hv with rfl | rfl <;> rfl) (by simp) rfl (fun p e s m args below meth c hC => ?_)
  have no : dRes S o = (S, false) → Gj p l e (rmo 4 0 0) s m args below meth c Θ M [some (.ref Y), some (.int (nI o)), none] 0 0 (Fn below args s Θ 0 0 (pI (MP M Y ar V I (dRes S o)))) 20 [] := by
    intro hd
    rw [hd]
    refine r_iconst hC 0 d_MdoRestore_20 (by decide) ?_
    exact r_zret hC d_MdoRestore_21 (Or.inl rfl) (Nat.le_refl _) (Nat.le_refl _) ⟨_, rfl, rfl, V, hV, hS, fun _ _ _ => rfl, Fr.rf⟩
  refine r_aload_n hC 0 d_MdoRestore_0 rfl rfl ?_
  refine r_getS hC 5 13 173 fl_M45 (by exact hV.k) d_MdoRestore_1 rfl rfl (by exact (hV.rf 173 (by decide))) ?_
  refine r_iload_n hC 1 d_MdoRestore_4 rfl rfl ?_
  refine r_zald hC (o) (hV.ak 173 (by decide)) rfl (by rw [hV.al 173 (by decide)]; exact (show o < mLn 173 from (by show o < 40; omega))) (by rw [hV.al 173 (by decide)]; decide) d_MdoRestore_5 (hV.el 173 (by decide) (o)) ?_
  rw [hto]
  refine r_if_eq hC 20 d_MdoRestore_6 (by decide) (fun z => no (if_neg (fun q => by rw [q.1] at z; exact i10 z))) (fun z => ?_)
  have ht := b2i_ne z
  obtain ⟨q, hq⟩ := hW.par ht (by omega)
  have hpv := hS.2.1 o q hq
  have hq40 := (hW.ple hq).1
  refine r_aload_n hC 0 d_MdoRestore_9 rfl rfl ?_
  refine r_getS hC 5 14 174 fl_M48 (by exact hV.k) d_MdoRestore_10 rfl rfl (by exact (hV.rf 174 (by decide))) ?_
  refine r_iload_n hC 1 d_MdoRestore_13 rfl rfl ?_
  refine r_iald hC (o) (hV.ak 174 (by decide)) rfl (by rw [hV.al 174 (by decide)]; exact (show o < mLn 174 from (by show o < 40; omega))) (by rw [hV.al 174 (by decide)]; decide) d_MdoRestore_14 (hV.el 174 (by decide) (o)) ?_
  refine r_bipush hC 40 d_MdoRestore_15 (by decide) ?_
  rw [hpv]
  refine r_icmp_eq hC 22 d_MdoRestore_17 (by decide) (fun z2 => ?_) (fun z2 => no (if_neg (fun w => z2 (by rw [hq] at w; rw [Option.some.inj w.2.1]; rfl))))
  have hq4 := (nI_eq (b := 40) (by omega) (by omega)).mp z2
  subst hq4
  obtain ⟨la, hla⟩ := hW.lp ht (by omega)
  have hla40 := hW.ls hla
  have hlv := hS.2.2.1 o ho
  rw [hla] at hlv
  have hlv : V 175 o = nI la := hlv
  have hrp : resP S o = if dm (mG S o la) = true then la else 0 := by unfold resP; rw [hla]
  have go : dm (mG S o (resP S o)) = true → resP S o < 40 → Gj p l e (rmo 4 0 0) s m args below meth c Θ M [some (.ref Y), some (.int (nI o)), none] 0 0 (Fn below args s Θ 0 0 (pI (MP M Y ar V I (dRes S o)))) 59 [.int (nI (resP S o))] := by
    intro hm hr40
    have hd : dRes S o = (sl (pt (tk S o) o (resP S o) (ki (tk S o) (resP S o)).length) o (some (resP S o)), true) := if_pos ⟨ht, hq, hm⟩
    rw [hd]
    refine r_is2 hC d_MdoRestore_59 ?_
    refine r_iload_n hC 2 d_MdoRestore_60 rfl rfl ?_
    refine r_iconst hC (-1) d_MdoRestore_61 (by decide) ?_
    refine r_icmp_ne hC 67 d_MdoRestore_62 (by decide) (fun _ => ?_) (fun z3 => ?_)
    · skip
      refine r_aload_n hC 0 d_MdoRestore_67 rfl rfl ?_
      refine r_iload_n hC 1 d_MdoRestore_68 rfl rfl ?_
      refine r_cVv hC [.int (nI o)] rfl (c_MtakeOut l Θ M Y ar V I hV S hS hW o 40 hq) mi_MtakeOut lk_M110 in_MtakeOut (ci := 5) rfl rfl (by exact hV.k) rfl (Nat.le_of_ble_eq_true rfl) ⟨Nat.le_of_ble_eq_true rfl, Nat.le_of_ble_eq_true rfl⟩ ⟨Nat.le_of_ble_eq_true rfl, Nat.le_of_ble_eq_true rfl⟩ d_MdoRestore_69 (fun M1 h1 => ?_)
      obtain ⟨V1, hV1, hS1, hk1, f1⟩ := h1
      have hkb := hS1.2.2.2.1 (resP S o) (by omega)
      refine r_aload_n hC 0 d_MdoRestore_72 rfl rfl ?_
      refine r_iload_n hC 1 d_MdoRestore_73 rfl rfl ?_
      refine r_iload_n hC 2 d_MdoRestore_74 rfl rfl ?_
      refine r_aload_n hC 0 d_MdoRestore_75 rfl rfl ?_
      refine r_getS hC 5 16 176 fl_M54 (by exact hV1.k) d_MdoRestore_76 rfl rfl (by exact (hV1.rf 176 (by decide))) ?_
      refine r_iload_n hC 2 d_MdoRestore_79 rfl rfl ?_
      refine r_iald hC (resP S o) (hV1.ak 176 (by decide)) rfl (by rw [hV1.al 176 (by decide)]; exact (show resP S o < mLn 176 from (by show resP S o < 41; omega))) (by rw [hV1.al 176 (by decide)]; decide) d_MdoRestore_80 (hV1.el 176 (by decide) (resP S o)) ?_
      rw [hkb]
      refine r_cVv hC [.int (nI o), .int (nI (resP S o)), .int (nI (ki (tk S o) (resP S o)).length)] rfl (c_MputAt l Θ M1 Y ar V1 I hV1 (tk S o) hS1 o (resP S o) _ ho (by omega) (fun y _ => tk_len hW o y) (Nat.le_refl _)) mi_MputAt lk_M118 in_MputAt (ci := 5) rfl rfl (by exact hV1.k) rfl (Nat.le_of_ble_eq_true rfl) ⟨Nat.le_of_ble_eq_true rfl, Nat.le_of_ble_eq_true rfl⟩ ⟨Nat.le_of_ble_eq_true rfl, Nat.le_of_ble_eq_true rfl⟩ d_MdoRestore_81 (fun M2 h2 => ?_)
      obtain ⟨V2, hV2, hS2, hk2, f2⟩ := h2
      refine r_aload_n hC 0 d_MdoRestore_84 rfl rfl ?_
      refine r_getS hC 5 15 175 fl_M51 (by exact hV2.k) d_MdoRestore_85 rfl rfl (by exact (hV2.rf 175 (by decide))) ?_
      refine r_iload_n hC 1 d_MdoRestore_88 rfl rfl ?_
      refine r_iload_n hC 2 d_MdoRestore_89 rfl rfl ?_
      refine r_iast hC (o) (hV2.ak 175 (by decide)) rfl (by rw [hV2.al 175 (by decide)]; exact (show o < mLn 175 from (by show o < 40; omega))) (by rw [hV2.al 175 (by decide)]; decide) d_MdoRestore_90 ?_
      obtain ⟨hV3, f3⟩ := hV2.st 175 (by decide) o (nI (resP S o))
      have hS3 := hS2.sl (o := o) (v := some (resP S o))
      have F2 := f1.trans f2 (MZ.old f1)
      refine r_iconst hC 1 d_MdoRestore_91 (by decide) ?_
      exact r_zret hC d_MdoRestore_92 (Or.inr rfl) (Nat.le_refl _) (Nat.le_refl _) ⟨_, rfl, rfl, _, hV3, hS3, (fun f hf j => by rw [up2_ne _ _ (by omega), hk2 f (by omega) (by omega) (by omega), hk1 f (by omega) (by omega)]), F2.trans f3 (MZ.old F2)⟩
    · have h5 : (nI (resP S o)).toInt = (-1 : Int32).toInt := by rw [show nI (resP S o) = (-1 : Int32) from z3]
      rw [nI_toInt (by omega)] at h5
      have h6 : (-1 : Int32).toInt = -1 := by decide
      omega
  refine r_aload_n hC 0 d_MdoRestore_22 rfl rfl ?_
  refine r_iload_n hC 1 d_MdoRestore_23 rfl rfl ?_
  refine r_aload_n hC 0 d_MdoRestore_24 rfl rfl ?_
  refine r_getS hC 5 15 175 fl_M51 (by exact hV.k) d_MdoRestore_25 rfl rfl (by exact (hV.rf 175 (by decide))) ?_
  refine r_iload_n hC 1 d_MdoRestore_28 rfl rfl ?_
  refine r_iald hC (o) (hV.ak 175 (by decide)) rfl (by rw [hV.al 175 (by decide)]; exact (show o < mLn 175 from (by show o < 40; omega))) (by rw [hV.al 175 (by decide)]; decide) d_MdoRestore_29 (hV.el 175 (by decide) (o)) ?_
  rw [hlv]
  refine r_cVi hC [.int (nI o), .int (nI la)] rfl (c_MmayGo l Θ M Y ar V I hV S hS hW ob hob hob40 hth o la ht (by omega) hla40) mi_MmayGo lk_M107 in_MmayGo (ci := 5) rfl rfl (by exact hV.k) rfl (Nat.le_of_ble_eq_true rfl) ⟨Nat.le_of_ble_eq_true rfl, Nat.le_of_ble_eq_true rfl⟩ ⟨Nat.le_of_ble_eq_true rfl, Nat.le_of_ble_eq_true rfl⟩ d_MdoRestore_30 (fun r1 M1 h1 => ?_)
  obtain ⟨rfl, rfl⟩ := h1
  refine r_if_eq hC 45 d_MdoRestore_33 (by decide) (fun z3 => ?_) (fun z3 => ?_)
  · have hnl := b2i_eq z3
    have hr0 : resP S o = 0 := by rw [hrp, hnl]; rfl
    rw [hr0] at go
    refine r_aload_n hC 0 d_MdoRestore_45 rfl rfl ?_
    refine r_iload_n hC 1 d_MdoRestore_46 rfl rfl ?_
    refine r_iconst hC 0 d_MdoRestore_47 (by decide) ?_
    refine r_cVi hC [.int (nI o), .int (nI 0)] rfl (c_MmayGo l Θ M1 Y ar V I hV S hS hW ob hob hob40 hth o 0 ht (by omega) (by omega)) mi_MmayGo lk_M107 in_MmayGo (ci := 5) rfl rfl (by exact hV.k) rfl (Nat.le_of_ble_eq_true rfl) ⟨Nat.le_of_ble_eq_true rfl, Nat.le_of_ble_eq_true rfl⟩ ⟨Nat.le_of_ble_eq_true rfl, Nat.le_of_ble_eq_true rfl⟩ d_MdoRestore_48 (fun r2 M2 h2 => ?_)
    obtain ⟨rfl, rfl⟩ := h2
    refine r_if_eq hC 58 d_MdoRestore_51 (by decide) (fun z4 => ?_) (fun z4 => ?_)
    · have hn0 := b2i_eq z4
      have hd : dRes S o = (S, false) := if_neg (fun w => by rw [hr0, hn0] at w; cases w.2.2)
      rw [hd]
      refine r_iconst hC (-1) d_MdoRestore_58 (by decide) ?_
      refine r_is2 hC d_MdoRestore_59 ?_
      refine r_iload_n hC 2 d_MdoRestore_60 rfl rfl ?_
      refine r_iconst hC (-1) d_MdoRestore_61 (by decide) ?_
      refine r_icmp_ne hC 67 d_MdoRestore_62 (by decide) (fun z5 => absurd rfl z5) (fun _ => ?_)
      refine r_iconst hC 0 d_MdoRestore_65 (by decide) ?_
      exact r_zret hC d_MdoRestore_66 (Or.inl rfl) (Nat.le_refl _) (Nat.le_refl _) ⟨_, rfl, rfl, V, hV, hS, fun _ _ _ => rfl, Fr.rf⟩
    · skip
      refine r_iconst hC 0 d_MdoRestore_54 (by decide) ?_
      refine r_goto hC 59 d_MdoRestore_55 (by decide) ?_
      exact go (b2i_ne z4) (by omega)
  · have hyl := b2i_ne z3
    have hr0 : resP S o = la := by rw [hrp, if_pos hyl]
    rw [hr0] at go
    refine r_aload_n hC 0 d_MdoRestore_36 rfl rfl ?_
    refine r_getS hC 5 15 175 fl_M51 (by exact hV.k) d_MdoRestore_37 rfl rfl (by exact (hV.rf 175 (by decide))) ?_
    refine r_iload_n hC 1 d_MdoRestore_40 rfl rfl ?_
    refine r_iald hC (o) (hV.ak 175 (by decide)) rfl (by rw [hV.al 175 (by decide)]; exact (show o < mLn 175 from (by show o < 40; omega))) (by rw [hV.al 175 (by decide)]; decide) d_MdoRestore_41 (hV.el 175 (by decide) (o)) ?_
    rw [hlv]
    refine r_goto hC 59 d_MdoRestore_42 (by decide) ?_
    exact go hyl hla40
theorem c_MdoRow (l : Launch) (Θ : Glob) (M : Mem) (Y : Nat) (ar : Nat → Nat) (V : Nat → Nat → Int32) (I : Nat → Int32) (hV : MV M Y ar V I) (S : TS) (hS : TV V S) (hW : WF S) (ob : Nat) (hob : I 168 = nI ob) (hob40 : ob ≤ 40) (hth : ∀ x, th S x = true → x < ob) (r : Nat) (hr : r < 301) (row : RowT) (hok : rOk row) (e0 : V 162 r = nI (rS row)) (e1 : V 165 r = nI (rO row)) (e2 : V 166 r = oO (rP row)) (e3 : V 167 r = oO (rB row)) : Ct l Θ y_MdoRow 5 0 0 [.ref Y, .int (nI r)] M (pI (MP M Y ar V I (doRow S row))) := by
  obtain ⟨o1, o2, o3, o4, o5⟩ := hok
  refine Ct.start (cc := b_MdoRow) (nL := 3) (ret := (some .boolean)) [some (.ref Y), some (.int (nI r)), none] mi_MdoRow.1 (by decide +kernel) (by intro v hv; simp at hv; rcases hv with rfl | rfl <;> rfl) (by simp) rfl (fun p e s m args below meth c hC => ?_)
  refine r_aload_n hC 0 d_MdoRow_0 rfl rfl ?_
  refine r_getS hC 5 5 165 fl_M19 (by exact hV.k) d_MdoRow_1 rfl rfl (by exact (hV.rf 165 (by decide))) ?_
  refine r_iload_n hC 1 d_MdoRow_4 rfl rfl ?_
  refine r_iald hC (r) (hV.ak 165 (by decide)) rfl (by rw [hV.al 165 (by decide)]; exact (show r < mLn 165 from (by show r < 301; omega))) (by rw [hV.al 165 (by decide)]; decide) d_MdoRow_5 (hV.el 165 (by decide) (r)) ?_
  rw [e1]
  refine r_is2 hC d_MdoRow_6 ?_
  refine r_aload_n hC 0 d_MdoRow_7 rfl rfl ?_
  refine r_getS hC 5 2 162 fl_M7 (by exact hV.k) d_MdoRow_8 rfl rfl (by exact (hV.rf 162 (by decide))) ?_
  refine r_iload_n hC 1 d_MdoRow_11 rfl rfl ?_
  refine r_iald hC (r) (hV.ak 162 (by decide)) rfl (by rw [hV.al 162 (by decide)]; exact (show r < mLn 162 from (by show r < 301; omega))) (by rw [hV.al 162 (by decide)]; decide) d_MdoRow_12 (hV.el 162 (by decide) (r)) ?_
  rw [e0]
  rcases (show rS row = 0 ∨ rS row = 1 ∨ rS row = 2 ∨ rS row = 3 by omega) with hs | hs | hs | hs
  · rw [doRow_0 hs, hs]
    refine r_tableIn hC 40 d_MdoRow_13 (by decide) (by decide) rfl (by decide) ?_
    refine r_aload_n hC 0 d_MdoRow_40 rfl rfl ?_
    refine r_getS hC 5 13 173 fl_M45 (by exact hV.k) d_MdoRow_41 rfl rfl (by exact (hV.rf 173 (by decide))) ?_
    refine r_iload_n hC 2 d_MdoRow_44 rfl rfl ?_
    refine r_iconst hC 1 d_MdoRow_45 (by decide) ?_
    refine r_zast hC (rO row) (hV.ak 173 (by decide)) rfl (by rw [hV.al 173 (by decide)]; exact (show rO row < mLn 173 from (by show rO row < 40; omega))) (by rw [hV.al 173 (by decide)]; decide) (Or.inr rfl) d_MdoRow_46 ?_
    obtain ⟨hV1, f1⟩ := hV.st 173 (by decide) (rO row) 1
    have hS1 : TV (up2 V 173 (rO row) 1) (sth S (rO row) true) := hS.sth (o := rO row) (b := true)
    generalize sEI M (ar 173) (rO row) 1 = M1 at hV1 f1 ⊢
    refine r_aload_n hC 0 d_MdoRow_47 rfl rfl ?_
    refine r_getS hC 5 15 175 fl_M51 (by exact hV1.k) d_MdoRow_48 rfl rfl (by exact (hV1.rf 175 (by decide))) ?_
    refine r_iload_n hC 2 d_MdoRow_51 rfl rfl ?_
    refine r_iconst hC 0 d_MdoRow_52 (by decide) ?_
    refine r_iast hC (rO row) (hV1.ak 175 (by decide)) rfl (by rw [hV1.al 175 (by decide)]; exact (show rO row < mLn 175 from (by show rO row < 40; omega))) (by rw [hV1.al 175 (by decide)]; decide) d_MdoRow_53 ?_
    obtain ⟨hV2, f2⟩ := hV1.st 175 (by decide) (rO row) 0
    have hS2 : TV (up2 (up2 V 173 (rO row) 1) 175 (rO row) 0) (sl (sth S (rO row) true) (rO row) (some 0)) := hS1.sl (o := rO row) (v := some 0)
    generalize sEI M1 (ar 175) (rO row) 0 = M2 at hV2 f2 ⊢
    have hkb := hS2.2.2.2.1 40 (by omega)
    have F2 := f1.trans f2 (MZ.old f1)
    refine r_aload_n hC 0 d_MdoRow_54 rfl rfl ?_
    refine r_iload_n hC 2 d_MdoRow_55 rfl rfl ?_
    refine r_bipush hC 40 d_MdoRow_56 (by decide) ?_
    refine r_aload_n hC 0 d_MdoRow_58 rfl rfl ?_
    refine r_getS hC 5 16 176 fl_M54 (by exact hV2.k) d_MdoRow_59 rfl rfl (by exact (hV2.rf 176 (by decide))) ?_
    refine r_bipush hC 40 d_MdoRow_62 (by decide) ?_
    refine r_iald hC (40) (hV2.ak 176 (by decide)) rfl (by rw [hV2.al 176 (by decide)]; exact (show 40 < mLn 176 from (by show 40 < 41; omega))) (by rw [hV2.al 176 (by decide)]; decide) d_MdoRow_64 (hV2.el 176 (by decide) (40)) ?_
    rw [hkb]
    refine r_cVv hC [.int (nI (rO row)), .int (nI 40), .int (nI (ki (sl (sth S (rO row) true) (rO row) (some 0)) 40).length)] rfl (c_MputAt l Θ M2 Y ar _ I hV2 _ hS2 (rO row) 40 _ o2 (by omega) (fun y _ => hW.klen y) (Nat.le_refl _)) mi_MputAt lk_M118 in_MputAt (ci := 5) rfl rfl (by exact hV2.k) rfl (Nat.le_of_ble_eq_true rfl) ⟨Nat.le_of_ble_eq_true rfl, Nat.le_of_ble_eq_true rfl⟩ ⟨Nat.le_of_ble_eq_true rfl, Nat.le_of_ble_eq_true rfl⟩ d_MdoRow_65 (fun M3 h3 => ?_)
    obtain ⟨V3, hV3, hS3, hk3, f3⟩ := h3
    refine r_iconst hC 1 d_MdoRow_68 (by decide) ?_
    exact r_zret hC d_MdoRow_69 (Or.inr rfl) (Nat.le_refl _) (Nat.le_refl _) ⟨_, rfl, rfl, V3, hV3, hS3, (fun f hf j => by rw [hk3 f (by omega) (by omega) (by omega), up2_ne _ _ (by omega), up2_ne _ _ (by omega)]), F2.trans f3 (MZ.old F2)⟩
  · obtain ⟨q, hq, hq40⟩ := o4 hs
    rw [hq] at e2
    rw [doRow_1 hs, hs, hq]
    refine r_tableIn hC 70 d_MdoRow_13 (by decide) (by decide) rfl (by decide) ?_
    refine r_aload_n hC 0 d_MdoRow_70 rfl rfl ?_
    refine r_iload_n hC 1 d_MdoRow_71 rfl rfl ?_
    refine r_cVi hC [.int (nI r)] rfl (c_MdoMove l Θ M Y ar V I hV S hS hW ob hob hob40 hth r (rO row) q (rB row) hr o1 o2 hq40 o5 e1 e2 e3) mi_MdoMove lk_M122 in_MdoMove (ci := 5) rfl rfl (by exact hV.k) rfl (Nat.le_of_ble_eq_true rfl) ⟨Nat.le_of_ble_eq_true rfl, Nat.le_of_ble_eq_true rfl⟩ ⟨Nat.le_of_ble_eq_true rfl, Nat.le_of_ble_eq_true rfl⟩ d_MdoRow_72 (fun r1 M1 h1 => ?_)
    exact r_zret hC d_MdoRow_75 (by rw [h1.1]; cases (dMove S (rO row) q (rB row)).2 <;> simp [b2i]) (Nat.le_refl _) (Nat.le_refl _) ⟨_, rfl, h1⟩
  · rw [doRow_2 hs, hs]
    refine r_tableIn hC 76 d_MdoRow_13 (by decide) (by decide) rfl (by decide) ?_
    refine r_aload_n hC 0 d_MdoRow_76 rfl rfl ?_
    refine r_iload_n hC 2 d_MdoRow_77 rfl rfl ?_
    refine r_cVi hC [.int (nI (rO row))] rfl (c_MdoRemove l Θ M Y ar V I hV S hS hW (rO row) o1 o2) mi_MdoRemove lk_M126 in_MdoRemove (ci := 5) rfl rfl (by exact hV.k) rfl (Nat.le_of_ble_eq_true rfl) ⟨Nat.le_of_ble_eq_true rfl, Nat.le_of_ble_eq_true rfl⟩ ⟨Nat.le_of_ble_eq_true rfl, Nat.le_of_ble_eq_true rfl⟩ d_MdoRow_78 (fun r1 M1 h1 => ?_)
    exact r_zret hC d_MdoRow_81 (by rw [h1.1]; cases (dRem S (rO row)).2 <;> simp [b2i]) (Nat.le_refl _) (Nat.le_refl _) ⟨_, rfl, h1⟩
  · rw [doRow_3 (by omega), hs]
    refine r_tableOut hC 82 d_MdoRow_13 (by decide) (by decide) ?_
    refine r_aload_n hC 0 d_MdoRow_82 rfl rfl ?_
    refine r_iload_n hC 2 d_MdoRow_83 rfl rfl ?_
    refine r_cVi hC [.int (nI (rO row))] rfl (c_MdoRestore l Θ M Y ar V I hV S hS hW ob hob hob40 hth (rO row) o1 o2) mi_MdoRestore lk_M129 in_MdoRestore (ci := 5) rfl rfl (by exact hV.k) rfl (Nat.le_of_ble_eq_true rfl) ⟨Nat.le_of_ble_eq_true rfl, Nat.le_of_ble_eq_true rfl⟩ ⟨Nat.le_of_ble_eq_true rfl, Nat.le_of_ble_eq_true rfl⟩ d_MdoRow_84 (fun r1 M1 h1 => ?_)
    exact r_zret hC d_MdoRow_87 (by rw [h1.1]; cases (dRes S (rO row)).2 <;> simp [b2i]) (Nat.le_refl _) (Nat.le_refl _) ⟨_, rfl, h1⟩
