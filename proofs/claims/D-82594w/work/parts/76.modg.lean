theorem mtL_eq {G : GS} (hG : GI G) (k u : Nat) : (lkL (qR G) (vK (qD G u)) (qN G)).filter (fun i => !vK (qD G k) i) = mtL G k u := by
  refine srt_uni (List.Pairwise.filter _ (lkL_srt hG.1 _ _ (Nat.le_refl _))) (lkL_srt hG.1 _ _ (Nat.le_refl _)) (fun i => ?_)
  unfold mtL
  rw [List.mem_filter, lkL_mem, lkL_mem]
  unfold mtP
  rw [Bool.and_eq_true]
  constructor
  · rintro ⟨⟨a, b, c⟩, d⟩; exact ⟨a, b, c, d⟩
  · rintro ⟨a, b, c, d⟩; exact ⟨⟨a, b, c⟩, d⟩
theorem c_Mmeet (l : Launch) (Θ : Glob) (M : Mem) (Y : Nat) (ar : Nat → Nat) (G : GS) (hG : GI G) (hO : MO M Y ar G) (x y : Int32) : Ct l Θ y_Mmeet 8 0 0 [.ref Y, .int x, .int y] M (pI fun r N => r = (aMeet G x y).1 ∧ MO N Y ar (aMeet G x y).2 ∧ Fr (MZ M) M N) := by
  obtain ⟨V, I0, hV0, hM0, hB0⟩ := hO
  have hn300 := hG.1.1
  have hob := hG.2.1
  refine Ct.start (cc := b_Mmeet) (nL := 5) (ret := (some .int)) [some (.ref Y), some (.int x), some (.int y), none, none] mi_Mmeet.1 (by decide +kernel) (by intro v hv; simp at hv; rcases hv with rfl | rfl | rfl <;> rfl) (by simp) rfl (fun p e s m args below meth c hC => ?_)
  refine r_aload_n hC 0 d_Mmeet_0 rfl rfl ?_
  refine r_iconst hC 0 d_Mmeet_1 (by decide) ?_
  refine r_putI hC 5 0 160 fl_M78 rfl (by exact hV0.k) d_Mmeet_2 rfl rfl rfl rfl ?_
  obtain ⟨hV, f1⟩ := hV0.si 160 (by decide) 0
  generalize hIe : va_up I0 160 0 = I at hV
  have hM : MG V I G := hM0.cg (fun _ _ _ => rfl) (by rw [← hIe]; exact ⟨va_up_ne _ _ (by omega), va_up_ne _ _ (by omega)⟩)
  have hB : I 172 = -1 ∨ ∃ k, k < 4 ∧ I 172 = nI k ∧ BV V G k := by rw [← hIe, va_up_ne _ _ (by omega)]; exact hB0
  have hO1 : MO (sI M 160 Y 0) Y ar G := ⟨V, I, hV, hM, hB⟩
  generalize sI M 160 Y 0 = M1 at hV f1 hO1 ⊢
  have hi1 : I 161 = nI (qN G) := hM.1.1
  have ho1 : I 168 = nI (qO G) := hM.2.1
  clear hV0 hM0 hB0 hIe
  have no : aMeet G x y = (-1, G) → Gj p l e (rmo 8 0 0) s m args below meth c Θ M1 [some (.ref Y), some (.int x), some (.int y), none, none] 0 0 (Fn below args s Θ 0 0 (pI fun r N => r = (aMeet G x y).1 ∧ MO N Y ar (aMeet G x y).2 ∧ Fr (MZ M) M N)) 24 [] := by
    intro hz
    rw [hz]
    refine r_iconst hC (-1) d_Mmeet_24 (by decide) ?_
    exact r_iret hC d_Mmeet_25 (Nat.le_refl _) (Nat.le_refl _) ⟨_, rfl, rfl, hO1, f1⟩
  refine r_iload_n hC 1 d_Mmeet_5 rfl rfl ?_
  refine r_cSi hC [.int x] rfl (c_MisNode l Θ M1 x) mi_MisNode lk_M152 in_MisNode rfl (Nat.le_of_ble_eq_true rfl) ⟨Nat.le_of_ble_eq_true rfl, Nat.le_of_ble_eq_true rfl⟩ ⟨Nat.le_of_ble_eq_true rfl, Nat.le_of_ble_eq_true rfl⟩ d_Mmeet_6 (fun r M2 h2 => ?_)
  obtain ⟨rfl, rfl⟩ := h2
  rcases ix_cases 4 x (by omega) with ⟨k, hk, rfl, ex⟩ | ⟨-, ex⟩
  · rw [ex]
    refine r_if_eq hC 24 d_Mmeet_9 (by decide) (fun z => absurd z i10) (fun _ => ?_)
    refine r_iload_n hC 2 d_Mmeet_12 rfl rfl ?_
    refine r_cSi hC [.int y] rfl (c_MisNode l Θ M2 y) mi_MisNode lk_M152 in_MisNode rfl (Nat.le_of_ble_eq_true rfl) ⟨Nat.le_of_ble_eq_true rfl, Nat.le_of_ble_eq_true rfl⟩ ⟨Nat.le_of_ble_eq_true rfl, Nat.le_of_ble_eq_true rfl⟩ d_Mmeet_13 (fun r M3 h3 => ?_)
    obtain ⟨rfl, rfl⟩ := h3
    rcases ix_cases 4 y (by omega) with ⟨u, hu, rfl, ey⟩ | ⟨-, ey⟩
    · rw [ey]
      have ea : aMeet G (nI k) (nI u) = if k = u then (-1, G) else (nI (mtL G k u).length, gLs G k (mtL G k u)) := by unfold aMeet; rw [ex, ey]
      refine r_if_eq hC 24 d_Mmeet_16 (by decide) (fun z => absurd z i10) (fun _ => ?_)
      refine r_iload_n hC 1 d_Mmeet_19 rfl rfl ?_
      refine r_iload_n hC 2 d_Mmeet_20 rfl rfl ?_
      refine r_icmp_ne hC 26 d_Mmeet_21 (by decide) (fun z => ?_) (fun z => no (by rw [ea, if_pos ((nI_eq (by omega) (by omega)).mp z)]))
      rw [ea, if_neg (fun q => z (by rw [q]))]
      have hmt := mtL_eq hG k u
      have hLlen := lkL_len (qR G) (vK (qD G u)) (qN G)
      have hLnd := (lkL_srt hG.1 (vK (qD G u)) (qN G) (Nat.le_refl _)).nd
      have hLm := lkL_mem (qR G) (vK (qD G u)) (qN G)
      generalize hLe : lkL (qR G) (vK (qD G u)) (qN G) = L at hmt hLlen hLnd hLm
      rw [← hmt]
      have go : ∀ (L2 L1 : List Nat) (M5 : Mem) (V5 : Nat → Nat → Int32) (I5 : Nat → Int32) (G1 : GS), L = L1 ++ L2 → MV M5 Y ar V5 I5 → MG V5 I5 G1 → GI G1 → qN G1 = qN G → (∀ i ∈ L2, vK (qD G1 k) i = vK (qD G k) i) → gLs G1 k (L2.filter (fun i => !vK (qD G k) i)) = gLs G k (L.filter (fun i => !vK (qD G k) i)) → I5 181 = nI L.length → (∀ i v, L[i]? = some v → V5 182 i = nI v) → Fr (MZ M) M M5 → Gj p l e (rmo 8 0 0) s m args below meth c Θ M5 [some (.ref Y), some (.int (nI k)), some (.int (nI u)), some (.int (nI (L1.filter (fun i => !vK (qD G k) i)).length)), some (.int (nI L1.length))] 0 0 (Fn below args s Θ 0 0 (pI fun r N => r = (nI (L.filter (fun i => !vK (qD G k) i)).length, gLs G k (L.filter (fun i => !vK (qD G k) i))).1 ∧ MO N Y ar (nI (L.filter (fun i => !vK (qD G k) i)).length, gLs G k (L.filter (fun i => !vK (qD G k) i))).2 ∧ Fr (MZ M) M N)) 72 [] := by
        intro L2
        induction L2 with
        | nil =>
          intro L1 M5 V5 I5 G1 hL hV5 hM5 hG1 hn1 hs1 hfin hi5 hv5 hF5
          rw [List.append_nil] at hL
          refine r_iload hC 4 d_Mmeet_72 rfl ?_
          refine r_aload_n hC 0 d_Mmeet_74 rfl rfl ?_
          refine r_getI hC 5 21 181 fl_M159 (by exact hV5.k) d_Mmeet_75 rfl rfl (by exact (hV5.fi 181 (by decide))) ?_
          rw [hi5, hL]
          refine r_icmp_ge hC 120 d_Mmeet_78 (by decide) (fun _ => ?_) (fun w => absurd (Int32.le_refl _) w)
          refine r_aload_n hC 0 d_Mmeet_120 rfl rfl ?_
          refine r_iconst hC (-1) d_Mmeet_121 (by decide) ?_
          refine r_putI hC 5 12 172 fl_M42 rfl (by exact hV5.k) d_Mmeet_122 rfl rfl rfl rfl ?_
          obtain ⟨hV6, f6⟩ := hV5.si 172 (by decide) (-1)
          generalize sI M5 172 Y (-1) = M6 at hV6 f6 ⊢
          refine r_iload_n hC 3 d_Mmeet_125 rfl rfl ?_
          rw [← hL]
          refine r_iret hC d_Mmeet_126 (Nat.le_refl _) (Nat.le_refl _) ⟨_, rfl, rfl, ?_, hF5.trans f6 (MZ.old hF5)⟩
          rw [← hfin]
          exact ⟨V5, _, hV6, hM5.cg (fun _ _ _ => rfl) ⟨va_up_ne _ _ (by omega), va_up_ne _ _ (by omega)⟩, Or.inl (va_up_self _ _ _)⟩
        | cons j L2 ih =>
          intro L1 M5 V5 I5 G1 hL hV5 hM5 hG1 hn1 hs1 hfin hi5 hv5 hF5
          have hvj := hv5 L1.length j (by rw [hL]; simp)
          have hll : L1.length < L.length := by rw [hL]; simp
          obtain ⟨j1, jn, -⟩ := (hLm j).mp (by rw [hL]; simp)
          have hsj := hs1 j List.mem_cons_self
          have hn300' := hG1.1.1
          have ih2 := ih (L1 ++ [j])
          rw [List.filter_append, List.length_append, List.length_append] at ih2
          refine r_iload hC 4 d_Mmeet_72 rfl ?_
          refine r_aload_n hC 0 d_Mmeet_74 rfl rfl ?_
          refine r_getI hC 5 21 181 fl_M159 (by exact hV5.k) d_Mmeet_75 rfl rfl (by exact (hV5.fi 181 (by decide))) ?_
          rw [hi5]
          refine r_icmp_ge hC 120 d_Mmeet_78 (by decide) (fun w => absurd w (nI_ge hll (by omega))) (fun _ => ?_)
          refine r_aload_n hC 0 d_Mmeet_81 rfl rfl ?_
          refine r_iload_n hC 1 d_Mmeet_82 rfl rfl ?_
          refine r_aload_n hC 0 d_Mmeet_83 rfl rfl ?_
          refine r_getS hC 5 22 182 fl_M66 (by exact hV5.k) d_Mmeet_84 rfl rfl (by exact (hV5.rf 182 (by decide))) ?_
          refine r_iload hC 4 d_Mmeet_87 rfl ?_
          refine r_iald hC (L1.length) (hV5.ak 182 (by decide)) rfl (by rw [hV5.al 182 (by decide)]; exact (show L1.length < mLn 182 from (by show L1.length < 301; omega))) (by rw [hV5.al 182 (by decide)]; decide) d_Mmeet_89 (hV5.el 182 (by decide) (L1.length)) ?_
          rw [hvj]
          refine r_cVi hC [.int (nI k), .int (nI j)] rfl (c_MknowsRow l Θ M5 Y ar V5 I5 hV5 k j hk (by omega) (vK (qD G1 k) j) (hM5.1.2.2.2.1 k j hk (by omega))) mi_MknowsRow lk_M84 in_MknowsRow (ci := 5) rfl rfl (by exact hV5.k) rfl (Nat.le_of_ble_eq_true rfl) ⟨Nat.le_of_ble_eq_true rfl, Nat.le_of_ble_eq_true rfl⟩ ⟨Nat.le_of_ble_eq_true rfl, Nat.le_of_ble_eq_true rfl⟩ d_Mmeet_90 (fun v M6 h6 => ?_)
          obtain ⟨rfl, rfl⟩ := h6
          rw [hsj]
          refine r_if_eq hC 99 d_Mmeet_93 (by decide) (fun w => ?_) (fun w => ?_)
          · have hkf := b2i_eq w
            have hf1 : List.filter (fun i => !vK (qD G k) i) [j] = [j] := by simp [hkf]
            have hf2 : List.filter (fun i => !vK (qD G k) i) (j :: L2) = j :: List.filter (fun i => !vK (qD G k) i) L2 := by simp [hkf]
            rw [hf1] at ih2
            rw [hf2] at hfin
            have hkf1 : vK (qD G1 k) j = false := hsj.trans hkf
            have hvm : vM (qD G1 k) < qN G1 := by rw [(hG1.2.2.2.2.1 k hk).2]; exact knC_lt j1 (by omega) hkf1
            refine r_aload_n hC 0 d_Mmeet_99 rfl rfl ?_
            refine r_iload_n hC 1 d_Mmeet_100 rfl rfl ?_
            refine r_aload_n hC 0 d_Mmeet_101 rfl rfl ?_
            refine r_getS hC 5 22 182 fl_M66 (by exact hV5.k) d_Mmeet_102 rfl rfl (by exact (hV5.rf 182 (by decide))) ?_
            refine r_iload hC 4 d_Mmeet_105 rfl ?_
            refine r_iald hC (L1.length) (hV5.ak 182 (by decide)) rfl (by rw [hV5.al 182 (by decide)]; exact (show L1.length < mLn 182 from (by show L1.length < 301; omega))) (by rw [hV5.al 182 (by decide)]; decide) d_Mmeet_107 (hV5.el 182 (by decide) (L1.length)) ?_
            rw [hvj]
            refine r_cVv hC [.int (nI k), .int (nI j)] rfl (c_Mlearn l Θ M6 Y ar V5 I5 hV5 G1 hM5 hG1.1 k hk (hG1.2.2.1 k hk) hvm j j1 (by omega) hkf1) mi_Mlearn lk_M144 in_Mlearn (ci := 5) rfl rfl (by exact hV5.k) rfl (Nat.le_of_ble_eq_true rfl) ⟨Nat.le_of_ble_eq_true rfl, Nat.le_of_ble_eq_true rfl⟩ ⟨Nat.le_of_ble_eq_true rfl, Nat.le_of_ble_eq_true rfl⟩ d_Mmeet_108 (fun M7 h7 => ?_)
            obtain ⟨V7, I7, hV7, hM7, hb7, hi7, hv7, f7⟩ := h7
            refine r_ii3 hC (nI ((L1.filter (fun i => !vK (qD G k) i)).length + [j].length)) d_Mmeet_111 (nI_1 _) ?_
            refine r_ii4 hC (nI (L1.length + [j].length)) d_Mmeet_114 (nI_1 _) ?_
            refine r_goto hC 72 d_Mmeet_117 (by decide) ?_
            refine ih2 M7 V7 I7 (gLrn G1 k j) (by rw [hL]; simp) hV7 hM7 (hG1.lrn hk j1 (by omega) hkf1) hn1 (fun i hi => ?_) hfin ((hi7 181 (by omega)).trans hi5) (fun i v hi => (hv7 182 (by omega) (by omega) (by omega) i).trans (hv5 i v hi)) (hF5.trans f7 (MZ.old hF5))
            show vK (va_up (qD G1) k _ k) i = _
            rw [va_up_self, lrn_K, va_up_ne _ _ (fun q => ?_)]
            · exact hs1 i (List.mem_cons_of_mem _ hi)
            · rw [hL, List.nodup_append] at hLnd
              rw [q] at hi
              exact (List.nodup_cons.mp hLnd.2.1).1 hi
          · have hkt := b2i_ne w
            have hf1 : List.filter (fun i => !vK (qD G k) i) [j] = [] := by simp [hkt]
            have hf2 : List.filter (fun i => !vK (qD G k) i) (j :: L2) = List.filter (fun i => !vK (qD G k) i) L2 := by simp [hkt]
            rw [hf1] at ih2
            rw [hf2] at hfin
            refine r_goto hC 114 d_Mmeet_96 (by decide) ?_
            refine r_ii4 hC (nI (L1.length + [j].length)) d_Mmeet_114 (nI_1 _) ?_
            refine r_goto hC 72 d_Mmeet_117 (by decide) ?_
            exact ih2 M6 V5 I5 G1 (by rw [hL]; simp) hV5 hM5 hG1 hn1 (fun i hi => hs1 i (List.mem_cons_of_mem _ hi)) hfin hi5 hv5 hF5
      refine r_aload_n hC 0 d_Mmeet_26 rfl rfl ?_
      refine r_iload_n hC 2 d_Mmeet_27 rfl rfl ?_
      refine r_cVv hC [.int (nI u)] rfl (c_MfindOrder l Θ M3 Y ar V I hV (qN G) (qR G) _ hM.1 hG.1 u hu) mi_MfindOrder lk_M132 in_MfindOrder (ci := 5) rfl rfl (by exact hV.k) rfl (Nat.le_of_ble_eq_true rfl) ⟨Nat.le_of_ble_eq_true rfl, Nat.le_of_ble_eq_true rfl⟩ ⟨Nat.le_of_ble_eq_true rfl, Nat.le_of_ble_eq_true rfl⟩ d_Mmeet_28 (fun M4 h4 => ?_)
      obtain ⟨V4, I4, hV4, hO4, hk4, hki4, f4⟩ := h4
      rw [hLe] at hO4
      obtain ⟨o1, o2⟩ := hO4
      have F4 := f1.trans f4 (MZ.old f1)
      refine r_aload_n hC 0 d_Mmeet_31 rfl rfl ?_
      refine r_aload_n hC 0 d_Mmeet_32 rfl rfl ?_
      refine r_getI hC 5 19 179 fl_M88 (by exact hV4.k) d_Mmeet_33 rfl rfl (by exact (hV4.fi 179 (by decide))) ?_
      rw [o1]
      refine r_putI hC 5 21 181 fl_M159 rfl (by exact hV4.k) d_Mmeet_36 rfl rfl rfl rfl ?_
      obtain ⟨hV5, f5⟩ := hV4.si 181 (by decide) (nI L.length)
      generalize sI M4 181 Y (nI L.length) = M5 at hV5 f5 ⊢
      have F5 := F4.trans f5 (MZ.old F4)
      have copy : ∀ (r i : Nat) (M6 : Mem) (V6 : Nat → Nat → Int32), i + r = L.length → MV M6 Y ar V6 (va_up I4 181 (nI L.length)) → (∀ f, f ≠ 182 → ∀ j, V6 f j = V4 f j) → (∀ j v, j < i → L[j]? = some v → V6 182 j = nI v) → Fr (MZ M) M M6 → Gj p l e (rmo 8 0 0) s m args below meth c Θ M6 [some (.ref Y), some (.int (nI k)), some (.int (nI u)), some (.int (nI i)), none] 0 0 (Fn below args s Θ 0 0 (pI fun r N => r = (nI (L.filter (fun i => !vK (qD G k) i)).length, gLs G k (L.filter (fun i => !vK (qD G k) i))).1 ∧ MO N Y ar (nI (L.filter (fun i => !vK (qD G k) i)).length, gLs G k (L.filter (fun i => !vK (qD G k) i))).2 ∧ Fr (MZ M) M N)) 41 [] := by
        intro r
        induction r with
        | zero =>
          intro i M6 V6 hi hV6 hof hcp hF6
          have hi : i = L.length := hi
          refine r_iload_n hC 3 d_Mmeet_41 rfl rfl ?_
          refine r_aload_n hC 0 d_Mmeet_42 rfl rfl ?_
          refine r_getI hC 5 19 179 fl_M88 (by exact hV6.k) d_Mmeet_43 rfl rfl (by exact (hV6.fi 179 (by decide))) ?_
          rw [show va_up I4 181 (nI L.length) 179 = nI L.length by rw [va_up_ne _ _ (by omega)]; exact o1]
          refine r_icmp_ge hC 67 d_Mmeet_46 (by decide) (fun _ => ?_) (fun w => absurd (by rw [hi]; exact Int32.le_refl _) w)
          refine r_iconst hC 0 d_Mmeet_67 (by decide) ?_
          refine r_is3 hC d_Mmeet_68 ?_
          refine r_iconst hC 0 d_Mmeet_69 (by decide) ?_
          refine r_is4 hC d_Mmeet_70 ?_
          exact go L [] M6 V6 _ G rfl hV6 (hM.cg (fun f hf j => (hof f (by omega) j).trans (hk4 f (by omega) j)) ⟨(va_up_ne _ _ (by omega)).trans (hki4 161 (by omega)), (va_up_ne _ _ (by omega)).trans (hki4 168 (by omega))⟩) hG rfl (fun _ _ => rfl) rfl (va_up_self _ _ _) (fun j v hj => hcp j v (by have := (List.getElem?_eq_some_iff.mp hj).1; omega) hj) hF6
        | succ r ih =>
          intro i M6 V6 hi hV6 hof hcp hF6
          obtain ⟨v, hv, -⟩ := get_some (l := L) (i := i) (by omega)
          have hov : V6 180 i = nI v := (hof 180 (by omega) i).trans (o2 i v hv)
          refine r_iload_n hC 3 d_Mmeet_41 rfl rfl ?_
          refine r_aload_n hC 0 d_Mmeet_42 rfl rfl ?_
          refine r_getI hC 5 19 179 fl_M88 (by exact hV6.k) d_Mmeet_43 rfl rfl (by exact (hV6.fi 179 (by decide))) ?_
          rw [show va_up I4 181 (nI L.length) 179 = nI L.length by rw [va_up_ne _ _ (by omega)]; exact o1]
          refine r_icmp_ge hC 67 d_Mmeet_46 (by decide) (fun w => absurd w (nI_ge (by omega) (by omega))) (fun _ => ?_)
          refine r_aload_n hC 0 d_Mmeet_49 rfl rfl ?_
          refine r_getS hC 5 22 182 fl_M66 (by exact hV6.k) d_Mmeet_50 rfl rfl (by exact (hV6.rf 182 (by decide))) ?_
          refine r_iload_n hC 3 d_Mmeet_53 rfl rfl ?_
          refine r_aload_n hC 0 d_Mmeet_54 rfl rfl ?_
          refine r_getS hC 5 20 180 fl_M63 (by exact hV6.k) d_Mmeet_55 rfl rfl (by exact (hV6.rf 180 (by decide))) ?_
          refine r_iload_n hC 3 d_Mmeet_58 rfl rfl ?_
          refine r_iald hC (i) (hV6.ak 180 (by decide)) rfl (by rw [hV6.al 180 (by decide)]; exact (show i < mLn 180 from (by show i < 301; omega))) (by rw [hV6.al 180 (by decide)]; decide) d_Mmeet_59 (hV6.el 180 (by decide) (i)) ?_
          rw [hov]
          refine r_iast hC (i) (hV6.ak 182 (by decide)) rfl (by rw [hV6.al 182 (by decide)]; exact (show i < mLn 182 from (by show i < 301; omega))) (by rw [hV6.al 182 (by decide)]; decide) d_Mmeet_60 ?_
          obtain ⟨hV7, f7⟩ := hV6.st 182 (by decide) i (nI v)
          generalize sEI M6 (ar 182) i (nI v) = M7 at hV7 f7 ⊢
          refine r_ii3 hC (nI (i + 1)) d_Mmeet_61 (nI_1 _) ?_
          refine r_goto hC 41 d_Mmeet_64 (by decide) ?_
          refine ih (i + 1) M7 _ (by omega) hV7 (fun f hf j => ?_) (fun j w hj hw => ?_) (hF6.trans f7 (MZ.old hF6))
          · rw [up2_ne _ _ (fun q => hf q.1)]; exact hof f hf j
          · by_cases e : j = i
            · rw [e, hv] at hw
              rw [e, up2_self, Option.some.inj hw]
            · rw [up2_ne _ _ (fun q => e q.2)]; exact hcp j w (by omega) hw
      refine r_iconst hC 0 d_Mmeet_39 (by decide) ?_
      refine r_is3 hC d_Mmeet_40 ?_
      exact copy L.length 0 M5 V4 (by omega) hV5 (fun _ _ _ => rfl) (fun j v hj => by omega) F5
    · rw [ey]
      refine r_if_eq hC 24 d_Mmeet_16 (by decide) (fun _ => no (by unfold aMeet; rw [ex, ey])) (fun z => absurd rfl z)
  · rw [ex]
    refine r_if_eq hC 24 d_Mmeet_9 (by decide) (fun _ => no (by unfold aMeet; rw [ex])) (fun z => absurd rfl z)
