theorem c_Mheight (l : Launch) (Θ : Glob) (M : Mem) (Y : Nat) (ar : Nat → Nat) (V : Nat → Nat → Int32) (I : Nat → Int32) (hV : MV M Y ar V I) (S : TS) (hS : TV V S) (hW : WF S) (ob : Nat) (hob : I 168 = nI ob) (hob40 : ob ≤ 40) (hth : ∀ x, th S x = true → x < ob) (o : Nat) (ho : th S o = true) (ho0 : o ≠ 0) : Ct l Θ y_Mheight 2 0 0 [.ref Y, .int (nI o)] M (pI fun r M1 => (∃ h, h ≤ 8 ∧ r = nI h ∧ (∀ j x, anc S j x = some o → j ≤ h) ∧ ∃ x, anc S h x = some o) ∧ M1 = M) := by
  obtain ⟨d, t, hd8, ht, ha⟩ := hW.dp ho
  have ho40 := hW.lt ho
  refine Ct.start (cc := b_Mheight) (nL := 6) (ret := (some .int)) [some (.ref Y), some (.int (nI o)), none, none, none, none] mi_Mheight.1 (by decide +kernel) (by intro v hv; simp at hv; rcases hv with rfl | rfl <;> rfl) (by simp) rfl (fun p e s m args below meth c hC => ?_)
  generalize hde : (if t = 40 then d - 1 else d) = de
  have hdx : ∀ j x, anc S j x = some o → th S x = true ∧ anc S (j + d) x = some t ∧ j + d ≤ 8 ∧ (if t = 40 then j + d - 1 else j + d) = de + j := fun j x hx => by
    have h1 := hW.anc_th ho hx
    have h2 : anc S (j + d) x = some t := by rw [anc_add, hx]; exact ha
    obtain ⟨d3, t3, h8, ht3, ha3⟩ := hW.dp h1
    have h4 := anc_uni ha3 (hW.tn ht3) h2 (hW.tn ht)
    refine ⟨h1, h2, by omega, ?_⟩
    rw [← hde]
    split
    · next q =>
      have : 1 ≤ d := by
        rcases Nat.eq_zero_or_pos d with z | z
        · rw [z, anc_0] at ha
          have := Option.some.inj ha
          omega
        · exact z
      omega
    · omega
  have loop : ∀ (c2 i h : Nat) (a5 : Option Value), i + c2 = ob → 1 ≤ i → (∀ j x, x < i → anc S j x = some o → j ≤ h) → (∃ x, anc S h x = some o) → Gj p l e (rmo 2 0 0) s m args below meth c Θ M [some (.ref Y), some (.int (nI o)), some (.int (nI h)), some (.int (nI de)), some (.int (nI i)), a5] 0 0 (Fn below args s Θ 0 0 (pI fun r M1 => (∃ h, h ≤ 8 ∧ r = nI h ∧ (∀ j x, anc S j x = some o → j ≤ h) ∧ ∃ x, anc S h x = some o) ∧ M1 = M)) 11 [] := by
    intro c2
    induction c2 with
    | zero =>
      intro i h a5 hi h1 hle hex
      have hi : i = ob := hi
      obtain ⟨x0, hx0⟩ := hex
      have h8 := (hdx h x0 hx0).2.2.1
      refine r_iload hC 4 d_Mheight_11 rfl ?_
      refine r_aload_n hC 0 d_Mheight_13 rfl rfl ?_
      refine r_getI hC 5 8 168 fl_M28 (by exact hV.k) d_Mheight_14 rfl rfl (by exact (hV.fi 168 (by decide))) ?_
      rw [hob]
      refine r_icmp_ge hC 72 d_Mheight_17 (by decide) (fun _ => ?_) (fun z => absurd (nI_le (by omega) (by omega)) z)
      refine r_iload_n hC 2 d_Mheight_72 rfl rfl ?_
      exact r_iret hC d_Mheight_73 (Nat.le_refl _) (Nat.le_refl _) ⟨_, rfl, ⟨h, by omega, rfl, fun j x hx => hle j x (by have := hth x (hdx j x hx).1; omega) hx, x0, hx0⟩, rfl⟩
    | succ c2 ih =>
      intro i h a5 hi h1 hle hex
      have hti := hS.1 i (by omega)
      obtain ⟨x0, hx0⟩ := id hex
      have h8 := (hdx h x0 hx0).2.2.1
      have next : ∀ (h2 : Nat) (a5 : Option Value), (∀ j x, x < i + 1 → anc S j x = some o → j ≤ h2) → (∃ x, anc S h2 x = some o) → Gj p l e (rmo 2 0 0) s m args below meth c Θ M [some (.ref Y), some (.int (nI o)), some (.int (nI h2)), some (.int (nI de)), some (.int (nI i)), a5] 0 0 (Fn below args s Θ 0 0 (pI fun r M1 => (∃ h, h ≤ 8 ∧ r = nI h ∧ (∀ j x, anc S j x = some o → j ≤ h) ∧ ∃ x, anc S h x = some o) ∧ M1 = M)) 66 [] := by
        intro h2 a5 q1 q2
        refine r_ii4 hC (nI (i + 1)) d_Mheight_66 (nI_1 _) ?_
        refine r_goto hC 11 d_Mheight_69 (by decide) ?_
        exact ih (i + 1) h2 a5 (by omega) (by omega) q1 q2
      have skip : ∀ a5 : Option Value, (∀ j, anc S j i ≠ some o) → Gj p l e (rmo 2 0 0) s m args below meth c Θ M [some (.ref Y), some (.int (nI o)), some (.int (nI h)), some (.int (nI de)), some (.int (nI i)), a5] 0 0 (Fn below args s Θ 0 0 (pI fun r M1 => (∃ h, h ≤ 8 ∧ r = nI h ∧ (∀ j x, anc S j x = some o → j ≤ h) ∧ ∃ x, anc S h x = some o) ∧ M1 = M)) 66 [] := fun a5 hno => next h a5 (fun j x hx hj => by
        rcases Nat.lt_or_ge x i with q | q
        · exact hle j x q hj
        · have : x = i := by omega
          rw [this] at hj; exact absurd hj (hno j)) hex
      refine r_iload hC 4 d_Mheight_11 rfl ?_
      refine r_aload_n hC 0 d_Mheight_13 rfl rfl ?_
      refine r_getI hC 5 8 168 fl_M28 (by exact hV.k) d_Mheight_14 rfl rfl (by exact (hV.fi 168 (by decide))) ?_
      rw [hob]
      refine r_icmp_ge hC 72 d_Mheight_17 (by decide) (fun z => absurd z (nI_ge (by omega) (by omega))) (fun _ => ?_)
      refine r_aload_n hC 0 d_Mheight_20 rfl rfl ?_
      refine r_getS hC 5 13 173 fl_M45 (by exact hV.k) d_Mheight_21 rfl rfl (by exact (hV.rf 173 (by decide))) ?_
      refine r_iload hC 4 d_Mheight_24 rfl ?_
      refine r_zald hC (i) (hV.ak 173 (by decide)) rfl (by rw [hV.al 173 (by decide)]; exact (show i < mLn 173 from (by show i < 40; omega))) (by rw [hV.al 173 (by decide)]; decide) d_Mheight_26 (hV.el 173 (by decide) (i)) ?_
      rw [hti]
      refine r_if_eq hC 66 d_Mheight_27 (by decide) (fun z => skip _ (fun j hj => ?_)) (fun z => ?_)
      · rw [(hdx j i hj).1] at z; exact i10 z
      have hi1 := b2i_ne z
      obtain ⟨d3, t3, h83, ht3, ha3⟩ := hW.dp hi1
      refine r_aload_n hC 0 d_Mheight_30 rfl rfl ?_
      refine r_iload hC 4 d_Mheight_31 rfl ?_
      refine r_iload_n hC 1 d_Mheight_33 rfl rfl ?_
      refine r_cVi hC [.int (nI i), .int (nI o)] rfl (c_MisBelow l Θ M Y ar V I hV S hS hW i o d3 t3 hi1 ho40 ha3 ht3 h83) mi_MisBelow lk_M98 in_MisBelow (ci := 5) rfl rfl (by exact hV.k) rfl (Nat.le_of_ble_eq_true rfl) ⟨Nat.le_of_ble_eq_true rfl, Nat.le_of_ble_eq_true rfl⟩ ⟨Nat.le_of_ble_eq_true rfl, Nat.le_of_ble_eq_true rfl⟩ d_Mheight_34 (fun r M1 h3 => ?_)
      obtain ⟨rfl, rfl⟩ := h3
      refine r_if_ne hC 43 d_Mheight_37 (by decide) (fun z2 => ?_) (fun z2 => ?_)
      · obtain ⟨j, hj⟩ := dm_iff.mp (b2i_ne z2)
        obtain ⟨g1, g2, g3, g4⟩ := hdx j i hj
        have huni : ∀ j2, anc S j2 i = some o → j2 = j := fun j2 hj2 => by
          have g5 := (hdx j2 i hj2).2.1
          have := anc_uni g2 (hW.tn ht) g5 (hW.tn ht)
          omega
        have con := c_Mdepth l Θ M1 Y ar V I hV S hS hW i (j + d) t g1 g2 ht g3
        rw [g4] at con
        refine r_aload_n hC 0 d_Mheight_43 rfl rfl ?_
        refine r_iload hC 4 d_Mheight_44 rfl ?_
        refine r_cVi hC [.int (nI i)] rfl (con) mi_Mdepth lk_M94 in_Mdepth (ci := 5) rfl rfl (by exact hV.k) rfl (Nat.le_of_ble_eq_true rfl) ⟨Nat.le_of_ble_eq_true rfl, Nat.le_of_ble_eq_true rfl⟩ ⟨Nat.le_of_ble_eq_true rfl, Nat.le_of_ble_eq_true rfl⟩ d_Mheight_46 (fun r M2 h4 => ?_)
        obtain ⟨rfl, rfl⟩ := h4
        refine r_iload_n hC 3 d_Mheight_49 rfl rfl ?_
        refine r_isub hC (nI j) d_Mheight_50 (by rw [pk_sub (by omega), Nat.add_sub_cancel_left]) ?_
        refine r_is5 hC d_Mheight_51 ?_
        refine r_iload hC 5 d_Mheight_53 rfl ?_
        refine r_iload_n hC 2 d_Mheight_55 rfl rfl ?_
        refine r_icmp_le hC 64 d_Mheight_56 (by decide) (fun z3 => ?_) (fun z3 => ?_)
        · have hjh := (nI_leI (by omega) (by omega)).mp z3
          refine r_iload_n hC 2 d_Mheight_64 rfl rfl ?_
          refine r_is2 hC d_Mheight_65 ?_
          refine next h _ (fun j2 x hx hj2 => ?_) hex
          rcases Nat.lt_or_ge x i with q | q
          · exact hle j2 x q hj2
          · have : x = i := by omega
            rw [this] at hj2
            rw [huni j2 hj2]; exact hjh
        · have hjh : h < j := by
            rcases Nat.lt_or_ge h j with q | q
            · exact q
            · exact absurd (nI_le q (by omega)) z3
          refine r_iload hC 5 d_Mheight_59 rfl ?_
          refine r_goto hC 65 d_Mheight_61 (by decide) ?_
          refine r_is2 hC d_Mheight_65 ?_
          refine next j _ (fun j2 x hx hj2 => ?_) ⟨i, hj⟩
          rcases Nat.lt_or_ge x i with q | q
          · have := hle j2 x q hj2; omega
          · have : x = i := by omega
            rw [this] at hj2
            rw [huni j2 hj2]; exact Nat.le_refl _
      · skip
        refine r_goto hC 66 d_Mheight_40 (by decide) ?_
        exact skip _ (fun j hj => by rw [dm_t ⟨j, hj⟩] at z2; exact i10 z2)
  have con := c_Mdepth l Θ M Y ar V I hV S hS hW o d t ho ha ht hd8
  rw [hde] at con
  refine r_iconst hC 0 d_Mheight_0 (by decide) ?_
  refine r_is2 hC d_Mheight_1 ?_
  refine r_aload_n hC 0 d_Mheight_2 rfl rfl ?_
  refine r_iload_n hC 1 d_Mheight_3 rfl rfl ?_
  refine r_cVi hC [.int (nI o)] rfl (con) mi_Mdepth lk_M94 in_Mdepth (ci := 5) rfl rfl (by exact hV.k) rfl (Nat.le_of_ble_eq_true rfl) ⟨Nat.le_of_ble_eq_true rfl, Nat.le_of_ble_eq_true rfl⟩ ⟨Nat.le_of_ble_eq_true rfl, Nat.le_of_ble_eq_true rfl⟩ d_Mheight_4 (fun r M1 h1 => ?_)
  obtain ⟨rfl, rfl⟩ := h1
  refine r_is3 hC d_Mheight_7 ?_
  refine r_iconst hC 1 d_Mheight_8 (by decide) ?_
  refine r_is4 hC d_Mheight_9 ?_
  refine loop (ob - 1) 1 0 none (by have := hth o ho; omega) (by omega) (fun j x hx hj => ?_) ⟨o, rfl⟩
  have : x = 0 := by omega
  rw [this] at hj
  cases j with
  | zero => omega
  | succ j => rw [anc_n hW.p0] at hj; cases hj
theorem c_MmayGo (l : Launch) (Θ : Glob) (M : Mem) (Y : Nat) (ar : Nat → Nat) (V : Nat → Nat → Int32) (I : Nat → Int32) (hV : MV M Y ar V I) (S : TS) (hS : TV V S) (hW : WF S) (ob : Nat) (hob : I 168 = nI ob) (hob40 : ob ≤ 40) (hth : ∀ x, th S x = true → x < ob) (o q : Nat) (ho : th S o = true) (ho0 : o ≠ 0) (hq : q < 40) : Ct l Θ y_MmayGo 3 0 0 [.ref Y, .int (nI o), .int (nI q)] M (pI fun r M1 => r = b2i (dm (mG S o q)) ∧ M1 = M) := by
  have ho40 := hW.lt ho
  have htq := hS.1 q hq
  refine Ct.start (cc := b_MmayGo) (nL := 3) (ret := (some .boolean)) [some (.ref Y), some (.int (nI o)), some (.int (nI q))] mi_MmayGo.1 (by decide +kernel) (by intro v hv; simp at hv; rcases hv with rfl | rfl | rfl <;> rfl) (by simp) rfl (fun p e s m args below meth c hC => ?_)
  have no : ¬ mG S o q → Gj p l e (rmo 3 0 0) s m args below meth c Θ M [some (.ref Y), some (.int (nI o)), some (.int (nI q))] 0 0 (Fn below args s Θ 0 0 (pI fun r M1 => r = b2i (dm (mG S o q)) ∧ M1 = M)) 48 [] := by
    intro hn
    rw [dm_f hn]
    refine r_iconst hC 0 d_MmayGo_48 (by decide) ?_
    exact r_zret hC d_MmayGo_49 (Or.inl rfl) (Nat.le_refl _) (Nat.le_refl _) ⟨_, rfl, rfl, rfl⟩
  refine r_aload_n hC 0 d_MmayGo_0 rfl rfl ?_
  refine r_getS hC 5 13 173 fl_M45 (by exact hV.k) d_MmayGo_1 rfl rfl (by exact (hV.rf 173 (by decide))) ?_
  refine r_iload_n hC 2 d_MmayGo_4 rfl rfl ?_
  refine r_zald hC (q) (hV.ak 173 (by decide)) rfl (by rw [hV.al 173 (by decide)]; exact (show q < mLn 173 from (by show q < 40; omega))) (by rw [hV.al 173 (by decide)]; decide) d_MmayGo_5 (hV.el 173 (by decide) (q)) ?_
  rw [htq]
  refine r_if_eq hC 48 d_MmayGo_6 (by decide) (fun z => no (fun w => by rw [w.2.1] at z; exact i10 z)) (fun z => ?_)
  have hq1 := b2i_ne z
  obtain ⟨d, t, hd8, ht, ha⟩ := hW.dp hq1
  refine r_aload_n hC 0 d_MmayGo_9 rfl rfl ?_
  refine r_iload_n hC 2 d_MmayGo_10 rfl rfl ?_
  refine r_iload_n hC 1 d_MmayGo_11 rfl rfl ?_
  refine r_cVi hC [.int (nI q), .int (nI o)] rfl (c_MisBelow l Θ M Y ar V I hV S hS hW q o d t hq1 ho40 ha ht hd8) mi_MisBelow lk_M98 in_MisBelow (ci := 5) rfl rfl (by exact hV.k) rfl (Nat.le_of_ble_eq_true rfl) ⟨Nat.le_of_ble_eq_true rfl, Nat.le_of_ble_eq_true rfl⟩ ⟨Nat.le_of_ble_eq_true rfl, Nat.le_of_ble_eq_true rfl⟩ d_MmayGo_12 (fun r M1 h1 => ?_)
  obtain ⟨rfl, rfl⟩ := h1
  refine r_if_ne hC 48 d_MmayGo_15 (by decide) (fun z => no (fun w => ?_)) (fun z => ?_)
  · obtain ⟨j, hj⟩ := dm_iff.mp (b2i_ne z)
    exact w.2.2.1 j hj
  have hnb : ∀ j, anc S j q ≠ some o := fun j hj => by rw [dm_t ⟨j, hj⟩] at z; exact i10 z
  refine r_aload_n hC 0 d_MmayGo_18 rfl rfl ?_
  refine r_iload_n hC 2 d_MmayGo_19 rfl rfl ?_
  refine r_cVi hC [.int (nI q)] rfl (c_Mtop l Θ M1 Y ar V I hV S hS hW q d t hq1 ha ht hd8) mi_Mtop lk_M101 in_Mtop (ci := 5) rfl rfl (by exact hV.k) rfl (Nat.le_of_ble_eq_true rfl) ⟨Nat.le_of_ble_eq_true rfl, Nat.le_of_ble_eq_true rfl⟩ ⟨Nat.le_of_ble_eq_true rfl, Nat.le_of_ble_eq_true rfl⟩ d_MmayGo_20 (fun r M2 h2 => ?_)
  obtain ⟨hr2, rfl⟩ := h2
  refine r_if_ne hC 48 d_MmayGo_23 (by decide) (fun z => no (fun w => ?_)) (fun z => ?_)
  · obtain ⟨d3, hd3, -⟩ := w.2.2.2
    have := anc_uni hd3 hW.p0 ha (hW.tn ht)
    exact z (hr2.mpr this.2.symm)
  have t0 := hr2.mp z
  subst t0
  have con := c_Mdepth l Θ M2 Y ar V I hV S hS hW q d 0 hq1 ha ht hd8
  rw [if_neg (by omega)] at con
  refine r_aload_n hC 0 d_MmayGo_26 rfl rfl ?_
  refine r_iload_n hC 2 d_MmayGo_27 rfl rfl ?_
  refine r_cVi hC [.int (nI q)] rfl (con) mi_Mdepth lk_M94 in_Mdepth (ci := 5) rfl rfl (by exact hV.k) rfl (Nat.le_of_ble_eq_true rfl) ⟨Nat.le_of_ble_eq_true rfl, Nat.le_of_ble_eq_true rfl⟩ ⟨Nat.le_of_ble_eq_true rfl, Nat.le_of_ble_eq_true rfl⟩ d_MmayGo_28 (fun r3 M3 h3 => ?_)
  obtain ⟨rfl, rfl⟩ := h3
  refine r_iconst hC 1 d_MmayGo_31 (by decide) ?_
  refine r_iadd hC (nI (d + 1)) d_MmayGo_32 (nI_1 _) ?_
  refine r_aload_n hC 0 d_MmayGo_33 rfl rfl ?_
  refine r_iload_n hC 1 d_MmayGo_34 rfl rfl ?_
  refine r_cVi hC [.int (nI o)] rfl (c_Mheight l Θ M3 Y ar V I hV S hS hW ob hob hob40 hth o ho ho0) mi_Mheight lk_M104 in_Mheight (ci := 5) rfl rfl (by exact hV.k) rfl (Nat.le_of_ble_eq_true rfl) ⟨Nat.le_of_ble_eq_true rfl, Nat.le_of_ble_eq_true rfl⟩ ⟨Nat.le_of_ble_eq_true rfl, Nat.le_of_ble_eq_true rfl⟩ d_MmayGo_35 (fun r4 M4 h4 => ?_)
  obtain ⟨⟨h, hh8, rfl, hle, x0, hx0⟩, rfl⟩ := h4
  refine r_iadd hC (nI (d + 1 + h)) d_MmayGo_38 (nI_add _ _) ?_
  refine r_bipush hC 8 d_MmayGo_39 (by decide) ?_
  refine r_icmp_gt hC 48 d_MmayGo_41 (by decide) (fun z => no (fun w => ?_)) (fun z => ?_)
  · obtain ⟨d3, hd3, h5⟩ := w.2.2.2
    have h6 := anc_uni hd3 hW.p0 ha hW.p0
    have h7 := h5 h x0 hx0
    exact absurd z (nI_nlt (a := 8) (by omega) (by omega))
  have hlt : d + 1 + h ≤ 8 := by
    rcases Nat.lt_or_ge 8 (d + 1 + h) with w | w
    · exact absurd (nI_lt (a := 8) w (by omega)) z
    · exact w
  rw [dm_t (show mG S o q from ⟨ho, hq1, hnb, d, ha, fun j x hx => by have := hle j x hx; omega⟩)]
  refine r_iconst hC 1 d_MmayGo_44 (by decide) ?_
  refine r_goto hC 49 d_MmayGo_45 (by decide) ?_
  exact r_zret hC d_MmayGo_49 (Or.inr rfl) (Nat.le_refl _) (Nat.le_refl _) ⟨_, rfl, rfl, rfl⟩
