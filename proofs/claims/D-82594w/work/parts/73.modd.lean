/-- the model holds G, in V and I -/
def MOQ (M : Mem) (Y : Nat) (ar : Nat → Nat) (G : GS) (V : Nat → Nat → Int32) (I : Nat → Int32) : Prop := MV M Y ar V I ∧ MG V I G ∧ (I 172 = -1 ∨ ∃ k, k < 4 ∧ I 172 = nI k ∧ BV V G k)
theorem MOQ.mo {M : Mem} {Y : Nat} {ar : Nat → Nat} {G : GS} {V : Nat → Nat → Int32} {I : Nat → Int32} (h : MOQ M Y ar G V I) : MO M Y ar G := ⟨V, I, h⟩
theorem plF_ob {G : GS} (hG : GI G) {k : Nat} (hk : k < 4) {x y : Int32} (ex : ix 4 x = some k) : (ix (qO G) y = none → plF G x y = none) ∧ ∀ o, o < qO G → y = nI o → plF G x y = if th (tr G k) o = true then some (k, o) else none := by
  have hob := hG.2.1
  refine ⟨fun h => ?_, fun o ho hy => ?_⟩
  · rcases ix_cases 40 y (by omega) with ⟨o, ho, rfl, e2⟩ | ⟨-, e2⟩
    · unfold plF
      rw [ex, e2]
      refine if_neg (fun w => ?_)
      have := hG.thb hk (l := vN (qD G k)) (fun i hi => hi) o w
      rw [ix_some this (by omega)] at h
      cases h
    · unfold plF; rw [ex, e2]
  · unfold plF
    rw [ex, hy, ix_some (m := 40) (by omega) (by omega)]
theorem c_MisIn (l : Launch) (Θ : Glob) (M : Mem) (Y : Nat) (ar : Nat → Nat) (G : GS) (hG : GI G) (V : Nat → Nat → Int32) (I : Nat → Int32) (hQ : MOQ M Y ar G V I) (x y : Int32) : Ct l Θ y_MisIn 7 0 0 [.ref Y, .int x, .int y] M (pI fun r N => r = b2i (plF G x y).isSome ∧ (∃ V2 I2, MOQ N Y ar G V2 I2 ∧ ∀ q, plF G x y = some q → BV V2 G q.1) ∧ Fr (MZ M) M N) := by
  obtain ⟨hV, hM, hB⟩ := id hQ
  have hob := hG.2.1
  have ho1 : I 168 = nI (qO G) := hM.2.1
  obtain ⟨mo, hmo⟩ : ∃ mo, qO G = mo + 1 := ⟨qO G - 1, by omega⟩
  have sub1 : nI (qO G) - 1 = nI mo := by rw [hmo]; exact nI_pred _
  refine Ct.start (cc := b_MisIn) (nL := 3) (ret := (some .boolean)) [some (.ref Y), some (.int x), some (.int y)] mi_MisIn.1 (by decide +kernel) (by intro v hv; simp at hv; rcases hv with rfl | rfl | rfl <;> rfl) (by simp) rfl (fun p e s m args below meth c hC => ?_)
  have no : plF G x y = none → Gj p l e (rmo 7 0 0) s m args below meth c Θ M [some (.ref Y), some (.int x), some (.int y)] 0 0 (Fn below args s Θ 0 0 (pI fun r N => r = b2i (plF G x y).isSome ∧ (∃ V2 I2, MOQ N Y ar G V2 I2 ∧ ∀ q, plF G x y = some q → BV V2 G q.1) ∧ Fr (MZ M) M N)) 21 [] := by
    intro hz
    rw [hz]
    refine r_iconst hC 0 d_MisIn_21 (by decide) ?_
    exact r_zret hC d_MisIn_22 (Or.inl rfl) (Nat.le_refl _) (Nat.le_refl _) ⟨_, rfl, rfl, ⟨V, I, hQ, (fun q e => by cases e)⟩, Fr.rf⟩
  refine r_iload_n hC 1 d_MisIn_0 rfl rfl ?_
  refine r_cSi hC [.int x] rfl (c_MisNode l Θ M x) mi_MisNode lk_M152 in_MisNode rfl (Nat.le_of_ble_eq_true rfl) ⟨Nat.le_of_ble_eq_true rfl, Nat.le_of_ble_eq_true rfl⟩ ⟨Nat.le_of_ble_eq_true rfl, Nat.le_of_ble_eq_true rfl⟩ d_MisIn_1 (fun r M2 h2 => ?_)
  obtain ⟨rfl, rfl⟩ := h2
  rcases ix_cases 4 x (by omega) with ⟨k, hk, rfl, ex⟩ | ⟨-, ex⟩
  · rw [ex]
    refine r_if_eq hC 21 d_MisIn_4 (by decide) (fun z => absurd z i10) (fun _ => ?_)
    refine r_iload_n hC 2 d_MisIn_7 rfl rfl ?_
    refine r_iconst hC 0 d_MisIn_8 (by decide) ?_
    refine r_aload_n hC 0 d_MisIn_9 rfl rfl ?_
    refine r_getI hC 5 8 168 fl_M28 (by exact hV.k) d_MisIn_10 rfl rfl (by exact (hV.fi 168 (by decide))) ?_
    rw [ho1]
    refine r_iconst hC 1 d_MisIn_13 (by decide) ?_
    refine r_isub hC (nI mo) d_MisIn_14 sub1 ?_
    refine r_cSi hC [.int y, .int 0, .int (nI mo)] rfl (c_Mwithin l Θ M2 y 0 (nI mo)) mi_Mwithin lk_M148 in_Mwithin rfl (Nat.le_of_ble_eq_true rfl) ⟨Nat.le_of_ble_eq_true rfl, Nat.le_of_ble_eq_true rfl⟩ ⟨Nat.le_of_ble_eq_true rfl, Nat.le_of_ble_eq_true rfl⟩ d_MisIn_15 (fun r M3 h3 => ?_)
    obtain ⟨rfl, rfl⟩ := h3
    rw [wi_ix (m := mo) (by omega), ← hmo]
    obtain ⟨pl1, pl2⟩ := plF_ob (y := y) hG hk ex
    rcases ix_cases (qO G) y (by omega) with ⟨o, ho, rfl, ey⟩ | ⟨-, ey⟩
    · rw [ey]
      have ep := pl2 o ho rfl
      rw [ep]
      refine r_if_ne hC 23 d_MisIn_18 (by decide) (fun _ => ?_) (fun z => absurd z i10)
      refine r_aload_n hC 0 d_MisIn_23 rfl rfl ?_
      refine r_iload_n hC 1 d_MisIn_24 rfl rfl ?_
      refine r_cVv hC [.int (nI k)] rfl (c_Mbuild l Θ M3 Y ar V I hV G hG hM hB k hk) mi_Mbuild lk_M162 in_Mbuild (ci := 5) rfl rfl (by exact hV.k) rfl (Nat.le_of_ble_eq_true rfl) ⟨Nat.le_of_ble_eq_true rfl, Nat.le_of_ble_eq_true rfl⟩ ⟨Nat.le_of_ble_eq_true rfl, Nat.le_of_ble_eq_true rfl⟩ d_MisIn_25 (fun M4 h4 => ?_)
      obtain ⟨V4, I4, hV4, hM4, hb4, hB4, f4⟩ := h4
      have hto := hB4.1.1 o (by omega)
      refine r_aload_n hC 0 d_MisIn_28 rfl rfl ?_
      refine r_getS hC 5 13 173 fl_M45 (by exact hV4.k) d_MisIn_29 rfl rfl (by exact (hV4.rf 173 (by decide))) ?_
      refine r_iload_n hC 2 d_MisIn_32 rfl rfl ?_
      refine r_zald hC (o) (hV4.ak 173 (by decide)) rfl (by rw [hV4.al 173 (by decide)]; exact (show o < mLn 173 from (by show o < 40; omega))) (by rw [hV4.al 173 (by decide)]; decide) d_MisIn_33 (hV4.el 173 (by decide) (o)) ?_
      rw [hto]
      refine r_zret hC d_MisIn_34 (by cases th (tr G k) o <;> simp [b2i]) (Nat.le_refl _) (Nat.le_refl _) ⟨_, rfl, ?_, ⟨V4, I4, ⟨hV4, hM4, Or.inr ⟨k, hk, hb4, hB4⟩⟩, fun q e => ?_⟩, f4⟩
      · cases th (tr G k) o <;> rfl
      · split at e
        · cases e; exact hB4
        · cases e
    · rw [ey]
      refine r_if_ne hC 23 d_MisIn_18 (by decide) (fun z => absurd rfl z) (fun _ => no (pl1 ey))
  · rw [ex]
    refine r_if_eq hC 21 d_MisIn_4 (by decide) (fun _ => no (by unfold plF; rw [ex])) (fun z => absurd rfl z)
theorem c_MparentOf (l : Launch) (Θ : Glob) (M : Mem) (Y : Nat) (ar : Nat → Nat) (V : Nat → Nat → Int32) (I : Nat → Int32) (hV : MV M Y ar V I) (S : TS) (hS : TV V S) (hW : WF S) (o : Nat) (ho : th S o = true) : Ct l Θ y_MparentOf 1 0 0 [.ref Y, .int (nI o)] M (pI fun r N => r = obF S o 0 ∧ N = M) := by
  have ho40 := hW.lt ho
  refine Ct.start (cc := b_MparentOf) (nL := 2) (ret := (some .int)) [some (.ref Y), some (.int (nI o))] mi_MparentOf.1 (by decide +kernel) (by intro v hv; simp at hv; rcases hv with rfl | rfl <;> rfl) (by simp) rfl (fun p e s m args below meth c hC => ?_)
  by_cases h0 : o = 0
  · have hp : pr S o = none := by rw [h0]; exact hW.p0
    have e0 : obF S o 0 = -1 := by unfold obF; rw [if_pos rfl, hp]
    rw [e0]
    refine r_iload_n hC 1 d_MparentOf_0 rfl rfl ?_
    refine r_if_eq hC 15 d_MparentOf_1 (by decide) (fun _ => ?_) (fun z => absurd (by rw [h0]; rfl) z)
    refine r_iconst hC (-1) d_MparentOf_15 (by decide) ?_
    refine r_goto hC 25 d_MparentOf_16 (by decide) ?_
    exact r_iret hC d_MparentOf_25 (Nat.le_refl _) (Nat.le_refl _) ⟨_, rfl, rfl, rfl⟩
  · obtain ⟨q, hq⟩ := hW.par ho h0
    have hv := hS.2.1 o q hq
    have hq40 := (hW.ple hq).1
    have e0 : obF S o 0 = if q = 40 then -1 else nI q := by unfold obF; rw [if_pos rfl, hq]
    rw [e0]
    refine r_iload_n hC 1 d_MparentOf_0 rfl rfl ?_
    refine r_if_eq hC 15 d_MparentOf_1 (by decide) (fun z => absurd z (nI_ne0 (by omega) (by omega))) (fun _ => ?_)
    refine r_aload_n hC 0 d_MparentOf_4 rfl rfl ?_
    refine r_getS hC 5 14 174 fl_M48 (by exact hV.k) d_MparentOf_5 rfl rfl (by exact (hV.rf 174 (by decide))) ?_
    refine r_iload_n hC 1 d_MparentOf_8 rfl rfl ?_
    refine r_iald hC (o) (hV.ak 174 (by decide)) rfl (by rw [hV.al 174 (by decide)]; exact (show o < mLn 174 from (by show o < 40; omega))) (by rw [hV.al 174 (by decide)]; decide) d_MparentOf_9 (hV.el 174 (by decide) (o)) ?_
    refine r_bipush hC 40 d_MparentOf_10 (by decide) ?_
    rw [hv]
    refine r_icmp_ne hC 19 d_MparentOf_12 (by decide) (fun z => ?_) (fun z => ?_)
    · have hne : q ≠ 40 := fun w => z (by rw [w]; rfl)
      refine r_aload_n hC 0 d_MparentOf_19 rfl rfl ?_
      refine r_getS hC 5 14 174 fl_M48 (by exact hV.k) d_MparentOf_20 rfl rfl (by exact (hV.rf 174 (by decide))) ?_
      refine r_iload_n hC 1 d_MparentOf_23 rfl rfl ?_
      refine r_iald hC (o) (hV.ak 174 (by decide)) rfl (by rw [hV.al 174 (by decide)]; exact (show o < mLn 174 from (by show o < 40; omega))) (by rw [hV.al 174 (by decide)]; decide) d_MparentOf_24 (hV.el 174 (by decide) (o)) ?_
      rw [hv]
      exact r_iret hC d_MparentOf_25 (Nat.le_refl _) (Nat.le_refl _) ⟨_, rfl, (if_neg hne).symm, rfl⟩
    · have he := (nI_eq (b := 40) (by omega) (by omega)).mp z
      refine r_iconst hC (-1) d_MparentOf_15 (by decide) ?_
      refine r_goto hC 25 d_MparentOf_16 (by decide) ?_
      exact r_iret hC d_MparentOf_25 (Nat.le_refl _) (Nat.le_refl _) ⟨_, rfl, (if_pos he).symm, rfl⟩
theorem c_Mobject (l : Launch) (Θ : Glob) (M : Mem) (Y : Nat) (ar : Nat → Nat) (G : GS) (hG : GI G) (hO : MO M Y ar G) (x y z : Int32) : Ct l Θ y_Mobject 8 0 0 [.ref Y, .int x, .int y, .int z] M (pI fun r N => r = aObj G x y z ∧ MO N Y ar G ∧ Fr (MZ M) M N) := by
  obtain ⟨V, I0, hV0, hM0, hB0⟩ := hO
  have hn300 := hG.1.1
  have hob := hG.2.1
  refine Ct.start (cc := b_Mobject) (nL := 4) (ret := (some .int)) [some (.ref Y), some (.int x), some (.int y), some (.int z)] mi_Mobject.1 (by decide +kernel) (by intro v hv; simp at hv; rcases hv with rfl | rfl | rfl | rfl <;> rfl) (by simp) rfl (fun p e s m args below meth c hC => ?_)
  refine r_aload_n hC 0 d_Mobject_0 rfl rfl ?_
  refine r_iconst hC 0 d_Mobject_1 (by decide) ?_
  refine r_putI hC 5 0 160 fl_M78 rfl (by exact hV0.k) d_Mobject_2 rfl rfl rfl rfl ?_
  obtain ⟨hV, f1⟩ := hV0.si 160 (by decide) 0
  generalize hIe : va_up I0 160 0 = I at hV
  have hM : MG V I G := hM0.cg (fun _ _ _ => rfl) (by rw [← hIe]; exact ⟨va_up_ne _ _ (by omega), va_up_ne _ _ (by omega)⟩)
  have hB : I 172 = -1 ∨ ∃ k, k < 4 ∧ I 172 = nI k ∧ BV V G k := by rw [← hIe, va_up_ne _ _ (by omega)]; exact hB0
  have hO1 : MO (sI M 160 Y 0) Y ar G := ⟨V, I, hV, hM, hB⟩
  generalize sI M 160 Y 0 = M1 at hV f1 hO1 ⊢
  have hi1 : I 161 = nI (qN G) := hM.1.1
  have ho1 : I 168 = nI (qO G) := hM.2.1
  clear hV0 hM0 hB0 hIe
  refine r_aload_n hC 0 d_Mobject_5 rfl rfl ?_
  refine r_iload_n hC 1 d_Mobject_6 rfl rfl ?_
  refine r_iload_n hC 2 d_Mobject_7 rfl rfl ?_
  refine r_cVi hC [.int x, .int y] rfl (c_MisIn l Θ M1 Y ar G hG V I ⟨hV, hM, hB⟩ x y) mi_MisIn lk_M165 in_MisIn (ci := 5) rfl rfl (by exact hV.k) rfl (Nat.le_of_ble_eq_true rfl) ⟨Nat.le_of_ble_eq_true rfl, Nat.le_of_ble_eq_true rfl⟩ ⟨Nat.le_of_ble_eq_true rfl, Nat.le_of_ble_eq_true rfl⟩ d_Mobject_8 (fun r M2 h2 => ?_)
  obtain ⟨rfl, ⟨V2, I2, hQ2, hbv⟩, f2⟩ := h2
  have hO2 := hQ2.mo
  obtain ⟨hV2, hM2, hB2⟩ := hQ2
  have F2 := f1.trans f2 (MZ.old f1)
  rcases plF_cases G x y with ⟨k, o, hk, ho, rfl, rfl, hth, ep⟩ | ep
  · have ea : aObj G (nI k) (nI o) z = obF (tr G k) o z := by unfold aObj; rw [ep]
    have hS := (hbv _ ep).1
    have hS : TV V2 (tr G k) := hS
    rw [ep, ea]
    have hW := hG.wf hk
    obtain ⟨dd, t, hd8, ht, hanc⟩ := hW.dp hth
    have edp := dpt_eq hW ht hanc
    refine r_if_ne hC 16 d_Mobject_11 (by decide) (fun _ => ?_) (fun z => absurd z i10)
    refine r_iload_n hC 3 d_Mobject_16 rfl rfl ?_
    rcases sw6 z with rfl | rfl | rfl | rfl | rfl | rfl | ⟨hy, y0, y1, y2, y3, y4, y5⟩
    · refine r_tableIn hC 56 d_Mobject_17 (by decide) (by decide) rfl (by decide) ?_
      refine r_aload_n hC 0 d_Mobject_56 rfl rfl ?_
      refine r_iload_n hC 2 d_Mobject_57 rfl rfl ?_
      refine r_cVi hC [.int (nI o)] rfl (c_MparentOf l Θ M2 Y ar V2 I2 hV2 (tr G k) hS hW o hth) mi_MparentOf lk_M168 in_MparentOf (ci := 5) rfl rfl (by exact hV2.k) rfl (Nat.le_of_ble_eq_true rfl) ⟨Nat.le_of_ble_eq_true rfl, Nat.le_of_ble_eq_true rfl⟩ ⟨Nat.le_of_ble_eq_true rfl, Nat.le_of_ble_eq_true rfl⟩ d_Mobject_58 (fun r M3 h3 => ?_)
      obtain ⟨rfl, rfl⟩ := h3
      exact r_iret hC d_Mobject_61 (Nat.le_refl _) (Nat.le_refl _) ⟨_, rfl, rfl, hO2, F2⟩
    · refine r_tableIn hC 62 d_Mobject_17 (by decide) (by decide) rfl (by decide) ?_
      refine r_aload_n hC 0 d_Mobject_62 rfl rfl ?_
      refine r_iload_n hC 2 d_Mobject_63 rfl rfl ?_
      refine r_cVi hC [.int (nI o)] rfl (c_Mdepth l Θ M2 Y ar V2 I2 hV2 (tr G k) hS hW o dd t hth hanc ht hd8) mi_Mdepth lk_M94 in_Mdepth (ci := 5) rfl rfl (by exact hV2.k) rfl (Nat.le_of_ble_eq_true rfl) ⟨Nat.le_of_ble_eq_true rfl, Nat.le_of_ble_eq_true rfl⟩ ⟨Nat.le_of_ble_eq_true rfl, Nat.le_of_ble_eq_true rfl⟩ d_Mobject_64 (fun r M3 h3 => ?_)
      obtain ⟨rfl, rfl⟩ := h3
      refine r_iret hC d_Mobject_67 (Nat.le_refl _) (Nat.le_refl _) ⟨_, rfl, ?_, hO2, F2⟩
      have ev : obF (tr G k) o 1 = if t = 40 then nI (dd - 1) else nI dd := by unfold obF; rw [if_neg (by decide), if_pos rfl, edp]
      rw [ev]
      split <;> rfl
    · refine r_tableIn hC 68 d_Mobject_17 (by decide) (by decide) rfl (by decide) ?_
      refine r_aload_n hC 0 d_Mobject_68 rfl rfl ?_
      refine r_getS hC 5 16 176 fl_M54 (by exact hV2.k) d_Mobject_69 rfl rfl (by exact (hV2.rf 176 (by decide))) ?_
      refine r_iload_n hC 2 d_Mobject_72 rfl rfl ?_
      refine r_iald hC (o) (hV2.ak 176 (by decide)) rfl (by rw [hV2.al 176 (by decide)]; exact (show o < mLn 176 from (by show o < 41; omega))) (by rw [hV2.al 176 (by decide)]; decide) d_Mobject_73 (hV2.el 176 (by decide) (o)) ?_
      exact r_iret hC d_Mobject_74 (Nat.le_refl _) (Nat.le_refl _) ⟨_, rfl, by unfold obF; rw [if_neg (by decide), if_neg (by decide), if_pos rfl]; exact hS.2.2.2.1 o (by omega), hO2, F2⟩
    · refine r_tableIn hC 75 d_Mobject_17 (by decide) (by decide) rfl (by decide) ?_
      have ev : obF (tr G k) o 3 = if t = 40 then 1 else 0 := by unfold obF; rw [if_neg (by decide), if_neg (by decide), if_neg (by decide), if_pos rfl, edp]
      refine r_aload_n hC 0 d_Mobject_75 rfl rfl ?_
      refine r_iload_n hC 2 d_Mobject_76 rfl rfl ?_
      refine r_cVi hC [.int (nI o)] rfl (c_Mtop l Θ M2 Y ar V2 I2 hV2 (tr G k) hS hW o dd t hth hanc ht hd8) mi_Mtop lk_M101 in_Mtop (ci := 5) rfl rfl (by exact hV2.k) rfl (Nat.le_of_ble_eq_true rfl) ⟨Nat.le_of_ble_eq_true rfl, Nat.le_of_ble_eq_true rfl⟩ ⟨Nat.le_of_ble_eq_true rfl, Nat.le_of_ble_eq_true rfl⟩ d_Mobject_77 (fun r M3 h3 => ?_)
      obtain ⟨hr3, rfl⟩ := h3
      refine r_if_ne hC 87 d_Mobject_80 (by decide) (fun z => ?_) (fun z => ?_)
      · have t4 : t = 40 := ht.resolve_left (fun w => z (hr3.mpr w))
        refine r_iconst hC 1 d_Mobject_87 (by decide) ?_
        exact r_iret hC d_Mobject_88 (Nat.le_refl _) (Nat.le_refl _) ⟨_, rfl, by rw [ev, if_pos t4], hO2, F2⟩
      · have t0 := hr3.mp z
        refine r_iconst hC 0 d_Mobject_83 (by decide) ?_
        refine r_goto hC 88 d_Mobject_84 (by decide) ?_
        exact r_iret hC d_Mobject_88 (Nat.le_refl _) (Nat.le_refl _) ⟨_, rfl, by rw [ev, if_neg (by omega)], hO2, F2⟩
    · refine r_tableIn hC 89 d_Mobject_17 (by decide) (by decide) rfl (by decide) ?_
      have ev : obF (tr G k) o 4 = nI (atK (tr G k) o) := by unfold obF; rw [if_neg (by decide), if_neg (by decide), if_neg (by decide), if_neg (by decide), if_pos rfl]
      by_cases h0 : o = 0
      · have hp : pr (tr G k) o = none := by rw [h0]; exact hW.p0
        refine r_iload_n hC 2 d_Mobject_89 rfl rfl ?_
        refine r_if_ne hC 97 d_Mobject_90 (by decide) (fun z => absurd (by rw [h0]; rfl) z) (fun _ => ?_)
        refine r_iconst hC 0 d_Mobject_93 (by decide) ?_
        refine r_goto hC 108 d_Mobject_94 (by decide) ?_
        exact r_iret hC d_Mobject_108 (Nat.le_refl _) (Nat.le_refl _) ⟨_, rfl, by rw [ev]; unfold atK; rw [hp]; rfl, hO2, F2⟩
      · obtain ⟨q, hq⟩ := hW.par hth h0
        have hv := hS.2.1 o q hq
        have hq40 := (hW.ple hq).1
        have hmem := hW.kp.mp hq
        refine r_iload_n hC 2 d_Mobject_89 rfl rfl ?_
        refine r_if_ne hC 97 d_Mobject_90 (by decide) (fun _ => ?_) (fun z => absurd ((nI_eq (b := 0) (by omega) (by omega)).mp z) h0)
        refine r_aload_n hC 0 d_Mobject_97 rfl rfl ?_
        refine r_iload_n hC 2 d_Mobject_98 rfl rfl ?_
        refine r_aload_n hC 0 d_Mobject_99 rfl rfl ?_
        refine r_getS hC 5 14 174 fl_M48 (by exact hV2.k) d_Mobject_100 rfl rfl (by exact (hV2.rf 174 (by decide))) ?_
        refine r_iload_n hC 2 d_Mobject_103 rfl rfl ?_
        refine r_iald hC (o) (hV2.ak 174 (by decide)) rfl (by rw [hV2.al 174 (by decide)]; exact (show o < mLn 174 from (by show o < 40; omega))) (by rw [hV2.al 174 (by decide)]; decide) d_Mobject_104 (hV2.el 174 (by decide) (o)) ?_
        rw [hv]
        refine r_cVi hC [.int (nI o), .int (nI q)] rfl (c_MplaceOf l Θ M2 Y ar V2 I2 hV2 (tr G k) hS q o hq40 (nI o) (fun y hy => nI_eq (by omega) (by have := (hW.klt hy).1; omega)) (hW.nd q) (hW.klen q)) mi_MplaceOf lk_M114 in_MplaceOf (ci := 5) rfl rfl (by exact hV2.k) rfl (Nat.le_of_ble_eq_true rfl) ⟨Nat.le_of_ble_eq_true rfl, Nat.le_of_ble_eq_true rfl⟩ ⟨Nat.le_of_ble_eq_true rfl, Nat.le_of_ble_eq_true rfl⟩ d_Mobject_105 (fun r M3 h3 => ?_)
        obtain ⟨rfl, rfl⟩ := h3
        exact r_iret hC d_Mobject_108 (Nat.le_refl _) (Nat.le_refl _) ⟨_, rfl, by rw [ev, if_pos hmem]; unfold atK; rw [hq], hO2, F2⟩
    · refine r_tableIn hC 109 d_Mobject_17 (by decide) (by decide) rfl (by decide) ?_
      refine r_aload_n hC 0 d_Mobject_109 rfl rfl ?_
      refine r_getS hC 5 15 175 fl_M51 (by exact hV2.k) d_Mobject_110 rfl rfl (by exact (hV2.rf 175 (by decide))) ?_
      refine r_iload_n hC 2 d_Mobject_113 rfl rfl ?_
      refine r_iald hC (o) (hV2.ak 175 (by decide)) rfl (by rw [hV2.al 175 (by decide)]; exact (show o < mLn 175 from (by show o < 40; omega))) (by rw [hV2.al 175 (by decide)]; decide) d_Mobject_114 (hV2.el 175 (by decide) (o)) ?_
      exact r_iret hC d_Mobject_115 (Nat.le_refl _) (Nat.le_refl _) ⟨_, rfl, by unfold obF; rw [if_neg (by decide), if_neg (by decide), if_neg (by decide), if_neg (by decide), if_neg (by decide), if_pos rfl]; exact hS.2.2.1 o ho, hO2, F2⟩
    · refine r_tableOut hC 116 d_Mobject_17 hy (by decide) ?_
      refine r_iconst hC (-1) d_Mobject_116 (by decide) ?_
      exact r_iret hC d_Mobject_117 (Nat.le_refl _) (Nat.le_refl _) ⟨_, rfl, by unfold obF; rw [if_neg y0, if_neg y1, if_neg y2, if_neg y3, if_neg y4, if_neg y5], hO2, F2⟩
  · have ea : aObj G x y z = -1 := by unfold aObj; rw [ep]
    rw [ep, ea]
    refine r_if_ne hC 16 d_Mobject_11 (by decide) (fun z => absurd rfl z) (fun _ => ?_)
    refine r_iconst hC (-1) d_Mobject_14 (by decide) ?_
    exact r_iret hC d_Mobject_15 (Nat.le_refl _) (Nat.le_refl _) ⟨_, rfl, rfl, hO2, F2⟩
