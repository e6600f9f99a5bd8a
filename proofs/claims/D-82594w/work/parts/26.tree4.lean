noncomputable def cpRs (S : TS) (cp : Nat → Nat) (o : Nat) : Nat → Nat := if th S o = true ∧ pr S o = some 40 ∧ dm (mG S o (resP S o)) = true then cpP cp (tk S o) (resP S o) else cp
theorem b2i_ne {b : Bool} (h : ¬ b2i b = 0) : b = true := by
  cases b with
  | true => rfl
  | false => exact absurd rfl h
theorem b2i_eq {b : Bool} (h : b2i b = 0) : b = false := by
  cases b with
  | false => rfl
  | true => exact absurd h (by decide)
theorem c_Trestore (l : Launch) (Θ : Glob) (M : Mem) (pa li : Nat → Nat) (S : TS) (cp : Nat → Nat) (hP : PA M pa li S cp) (hW : WF S) (hcp : CPok cp) (T P SL KN UD : Nat) (hT : TrO M T P SL KN UD pa) (s : Nat) (hs : kd M s = 4) (h98 : fI M 98 s = 0) (o : Nat) (ho : 0 < o) (ho2 : o < 40) : Ct l Θ y_Trestore 14 (kC cp - kC (cpRs S cp o)) (kS cp - kS (cpRs S cp o)) [.ref T, .ref s, .ref (pa o)] M (pV fun N => PA N pa li (dRes S o).1 (cpRs S cp o) ∧ Fr (GZ M pa li s) M N ∧ Sti N pa s (dRes S o).2 S o ∧ StK M N s) := by
  have hko := hP.kp (o := o) (by omega)
  have h36 := (hP.1 o (by omega)).2.2.2.2.2
  have h35 := (hP.1 o (by omega)).2.2.2.2.1
  refine Ct.start (cc := b_Trestore) (nL := 4) (ret := none) [some (.ref T), some (.ref s), some (.ref (pa o)), none] mi_Trestore.1 (by decide +kernel) (by intro v hv; simp at hv; rcases hv with rfl | rfl | rfl <;> rfl) (by simp) rfl (fun p e st m args below meth c hC => ?_)
  have no : ¬ (th S o = true ∧ pr S o = some 40 ∧ dm (mG S o (resP S o)) = true) → (pV fun N => PA N pa li (dRes S o).1 (cpRs S cp o) ∧ Fr (GZ M pa li s) M N ∧ Sti N pa s (dRes S o).2 S o ∧ StK M N s) none M := by
    intro hn
    have hd : dRes S o = (S, false) := by unfold dRes; rw [if_neg hn]
    have hc : cpRs S cp o = cp := if_neg hn
    rw [hd, hc]
    exact ⟨rfl, hP, Fr.rf, ⟨hs, h98, fun w => by cases w⟩, rfl, rfl⟩
  refine r_aload_n hC 2 d_Trestore_0 rfl rfl ?_
  refine r_getI hC 1 4 36 fl_T45 (by exact hko) d_Trestore_1 rfl rfl (by exact h36) ?_
  refine r_if_eq hC 15 d_Trestore_4 (by decide) (fun z => ?_) (fun z => ?_)
  · exact r_vret hC d_Trestore_15 (Nat.zero_le _) (Nat.zero_le _) (no fun w => by rw [b2i_eq z] at w; cases w.1)
  · have hto := b2i_ne z
    obtain ⟨q, hq⟩ := hW.lp hto (by omega)
    have hq40 := hW.ls hq
    rw [hq] at h35
    have h35 : fR M 35 (pa o) = some (pa q) := h35
    refine r_aload_n hC 0 d_Trestore_7 rfl rfl ?_
    refine r_aload_n hC 2 d_Trestore_8 rfl rfl ?_
    refine r_cVi hC [.ref (pa o)] rfl (c_TisInBin l Θ M pa li S cp hP hW T P SL KN UD hT o (by omega)) mi_TisInBin lk_T132 in_TisInBin (ci := 4) rfl rfl (by exact hT.1) rfl (Nat.le_of_ble_eq_true rfl) ⟨Nat.le_of_ble_eq_true rfl, Nat.le_of_ble_eq_true rfl⟩ ⟨Nat.zero_le _, Nat.zero_le _⟩ d_Trestore_9 (fun r M1 h1 => ?_)
    obtain ⟨rfl, rfl⟩ := h1
    refine r_if_ne hC 16 d_Trestore_12 (by decide) (fun z2 => ?_) (fun z2 => ?_)
    · have hpr := dm_iff.mp (b2i_ne z2)
      have hres : resP S o = if dm (mG S o q) = true then q else 0 := by unfold resP; rw [hq]
      have hr40 : resP S o < 40 := by rw [hres]; split <;> omega
      have hkr := hP.kp (o := resP S o) (by omega)
      have cont : Gj p l e (rmo 14 (kC cp - kC (cpRs S cp o)) (kS cp - kS (cpRs S cp o))) st m args below meth c Θ M1 [some (.ref T), some (.ref s), some (.ref (pa o)), some (.ref (pa (resP S o)))] 0 0 (Fn below args st Θ (kC cp - kC (cpRs S cp o)) (kS cp - kS (cpRs S cp o)) (pV fun N => PA N pa li (dRes S o).1 (cpRs S cp o) ∧ Fr (GZ M1 pa li s) M1 N ∧ Sti N pa s (dRes S o).2 S o ∧ StK M1 N s)) 42 [] := by
        refine r_aload_n hC 0 d_Trestore_42 rfl rfl ?_
        refine r_aload_n hC 2 d_Trestore_43 rfl rfl ?_
        refine r_aload_n hC 3 d_Trestore_44 rfl rfl ?_
        refine r_cVi hC [.ref (pa o), .ref (pa (resP S o))] rfl (c_TmayGo l Θ M1 pa li S cp hP hW T P SL KN UD hT o (resP S o) ho2 hr40) mi_TmayGo lk_T142 in_TmayGo (ci := 4) rfl rfl (by exact hT.1) rfl (Nat.le_of_ble_eq_true rfl) ⟨Nat.le_of_ble_eq_true rfl, Nat.le_of_ble_eq_true rfl⟩ ⟨Nat.zero_le _, Nat.zero_le _⟩ d_Trestore_45 (fun r M2 h2 => ?_)
        obtain ⟨rfl, rfl⟩ := h2
        refine r_if_ne hC 52 d_Trestore_48 (by decide) (fun z3 => ?_) (fun z3 => ?_)
        · have hcond : th S o = true ∧ pr S o = some 40 ∧ dm (mG S o (resP S o)) = true := ⟨hto, hpr, b2i_ne z3⟩
          have hd : dRes S o = (sl (pt (tk S o) o (resP S o) (ki (tk S o) (resP S o)).length) o (some (resP S o)), true) := by unfold dRes; rw [if_pos hcond]
          have hc : cpRs S cp o = cpP cp (tk S o) (resP S o) := if_pos hcond
          rw [hd, hc]
          refine r_aload_n hC 0 d_Trestore_52 rfl rfl ?_
          refine r_aload_n hC 1 d_Trestore_53 rfl rfl ?_
          refine r_aload_n hC 2 d_Trestore_54 rfl rfl ?_
          refine r_cVv hC [.ref s, .ref (pa o)] rfl (c_Tbegin l Θ M2 T s hT.1 hs pa li S cp hP hW o (by omega)) mi_Tbegin lk_T114 in_Tbegin (ci := 4) rfl rfl (by exact hT.1) rfl (Nat.le_of_ble_eq_true rfl) ⟨Nat.le_of_ble_eq_true rfl, Nat.le_of_ble_eq_true rfl⟩ ⟨Nat.zero_le _, Nat.zero_le _⟩ d_Trestore_55 (fun M3 h3 => ?_)
          have f2 := bgM_fr M2 s pa S o
          have st2 := bgM_sti (M := M2) (pa := pa) (S := S) (o := o) hs
          have k2 := bgM_k M2 s pa S o
          rw [← h3] at f2 st2 k2
          have hP2 := hP.st hs f2
          refine r_aload_n hC 0 d_Trestore_58 rfl rfl ?_
          refine r_aload_n hC 2 d_Trestore_59 rfl rfl ?_
          refine r_cVv hC [.ref (pa o)] rfl (c_Ttake l Θ M3 T (f2.k hT.1) pa li S cp hP2 hW o (by omega)) mi_Ttake lk_T135 in_Ttake (ci := 4) rfl rfl (by exact f2.k hT.1) rfl (Nat.le_of_ble_eq_true rfl) ⟨Nat.le_of_ble_eq_true rfl, Nat.le_of_ble_eq_true rfl⟩ ⟨Nat.zero_le _, Nat.zero_le _⟩ d_Trestore_60 (fun M4 h4 => ?_)
          obtain ⟨hP3, f3⟩ := h4
          have g3 : Fr (GZ M2 pa li s) M2 M4 := GZ.seq (f2.mono fun _ _ h => Or.inr h) f3
          have hs3 : kd M4 s = 4 := g3.k hs
          have st3 := st2.fr f3 (PZ.not hP2 (f2.k hs) (by omega))
          have k3 := k2.trans (StK.of f3 (by rw [f2.k hs]; omega) (PZ.not hP2 (f2.k hs) (by omega)))
          have hT3 : kd M4 T = 5 := g3.k hT.1
          have h33r := (hP3.1 (resP S o) (by omega)).2.2.1
          have hLr := hP3.2.1 (resP S o) (by omega)
          have hszr := hLr.len
          rw [List.length_map] at hszr
          refine r_aload_n hC 0 d_Trestore_63 rfl rfl ?_
          refine r_aload_n hC 2 d_Trestore_64 rfl rfl ?_
          refine r_aload_n hC 3 d_Trestore_65 rfl rfl ?_
          refine r_aload_n hC 3 d_Trestore_66 rfl rfl ?_
          refine r_getS hC 1 1 33 fl_T70 (by exact hP3.kp (by omega)) d_Trestore_67 rfl rfl (by exact h33r) ?_
          refine r_cVi hC [] rfl (c_Asize l Θ M4 (li (resP S o)) hLr.1) mi_Asize lk_T118 in_Asize (ci := 6) rfl rfl (by exact hLr.1) rfl (Nat.le_of_ble_eq_true rfl) ⟨Nat.le_of_ble_eq_true rfl, Nat.le_of_ble_eq_true rfl⟩ ⟨Nat.zero_le _, Nat.zero_le _⟩ d_Trestore_70 (fun r M5 h5 => ?_)
          obtain ⟨rfl, rfl⟩ := h5
          rw [hszr]
          refine r_cVv hC [.ref (pa o), .ref (pa (resP S o)), .int (nI (ki (tk S o) (resP S o)).length)] rfl (c_Tput l Θ M5 T hT3 pa li (tk S o) cp hP3 o (resP S o) _ (by omega) (by omega) (Nat.le_refl _) (tk_len hW o _) (tk_b hW o _) hcp) mi_Tput lk_T121 in_Tput (ci := 4) rfl rfl (by exact hT3) rfl (Nat.le_of_ble_eq_true rfl) ⟨Nat.le_of_ble_eq_true rfl, Nat.le_of_ble_eq_true rfl⟩ ⟨Nat.le_of_eq (Nat.zero_add _), Nat.le_of_eq (Nat.zero_add _)⟩ d_Trestore_73 (fun M6 h6 => ?_)
          obtain ⟨hP5, f5⟩ := h6
          have g5 := GZ.seq g3 f5
          refine r_aload_n hC 2 d_Trestore_76 rfl rfl ?_
          refine r_aload_n hC 3 d_Trestore_77 rfl rfl ?_
          refine r_putR hC 1 3 35 fl_T92 rfl (by exact hP5.kp (by omega)) d_Trestore_78 (v := ((some (resP S o)).map pa)) rfl rfl ?_
          obtain ⟨hP6, f6⟩ := hP5.slq (o := o) (by omega) (some (resP S o))
          refine r_vret hC d_Trestore_81 (by omega) (by omega) ⟨rfl, hP6, GZ.seq g5 f6, ?_, ?_⟩
          · exact (st3.fr f5 (PZ.not hP3 hs3 (by omega))).fr f6 (PZ.not hP5 (f5.k hs3) (by omega))
          · exact (k3.trans (StK.of f5 (by omega) (PZ.not hP3 hs3 (by omega)))).trans (StK.of f6 (by rw [f5.k hs3]; omega) (PZ.not hP5 (f5.k hs3) (by omega)))
        · exact r_vret hC d_Trestore_51 (Nat.zero_le _) (Nat.zero_le _) (no fun w => by rw [b2i_eq z3] at w; cases w.2.2)
      refine r_aload_n hC 0 d_Trestore_16 rfl rfl ?_
      refine r_aload_n hC 2 d_Trestore_17 rfl rfl ?_
      refine r_aload_n hC 2 d_Trestore_18 rfl rfl ?_
      refine r_getS hC 1 3 35 fl_T92 (by exact hko) d_Trestore_19 rfl rfl (by exact h35) ?_
      refine r_cVi hC [.ref (pa o), .ref (pa q)] rfl (c_TmayGo l Θ M1 pa li S cp hP hW T P SL KN UD hT o q ho2 hq40) mi_TmayGo lk_T142 in_TmayGo (ci := 4) rfl rfl (by exact hT.1) rfl (Nat.le_of_ble_eq_true rfl) ⟨Nat.le_of_ble_eq_true rfl, Nat.le_of_ble_eq_true rfl⟩ ⟨Nat.zero_le _, Nat.zero_le _⟩ d_Trestore_22 (fun r M2 h2 => ?_)
      obtain ⟨rfl, rfl⟩ := h2
      refine r_if_eq hC 35 d_Trestore_25 (by decide) (fun z3 => ?_) (fun z3 => ?_)
      · have e : resP S o = 0 := by rw [hres, b2i_eq z3]; rfl
        rw [e] at cont
        refine r_aload_n hC 0 d_Trestore_35 rfl rfl ?_
        refine r_getS hC 4 1 129 fl_T11 (by exact hT.1) d_Trestore_36 rfl rfl (by exact hT.2.1) ?_
        refine r_iconst hC 0 d_Trestore_39 (by decide) ?_
        refine r_aaldS hC 3 0 (by rw [hT.2.2.2.2.2.2.1]; rfl) (by omega) rfl (by rw [hT.2.2.2.2.2.2.2.1]; omega) (by rw [hT.2.2.2.2.2.2.2.1]; omega) d_Trestore_40 (hT.2.2.2.2.2.2.2.2 0 (by omega)) ?_
        refine r_as3 hC d_Trestore_41 ?_
        exact cont
      · have e : resP S o = q := by rw [hres, b2i_ne z3]; rfl
        rw [e] at cont
        refine r_aload_n hC 2 d_Trestore_28 rfl rfl ?_
        refine r_getS hC 1 3 35 fl_T92 (by exact hko) d_Trestore_29 rfl rfl (by exact h35) ?_
        refine r_goto hC 41 d_Trestore_32 (by decide) ?_
        refine r_as3 hC d_Trestore_41 ?_
        exact cont
    · exact r_vret hC d_Trestore_15 (Nat.zero_le _) (Nat.zero_le _) (no fun w => by have := b2i_eq z2; rw [dm_t w.2.1] at this; cases this)
def cpBk (a : Bool) (S : TS) (cp : Nat → Nat) (o : Nat) (par : Option Nat) : Nat → Nat := if a = true then (match par with
  | some p => cpP cp (tk S o) p
  | none => cp) else cp
theorem c_Tback (l : Launch) (Θ : Glob) (M : Mem) (pa li : Nat → Nat) (S : TS) (cp : Nat → Nat) (hP : PA M pa li S cp) (hW : WF S) (hcp : CPok cp) (T : Nat) (hT : kd M T = 5) (s : Nat) (a : Bool) (o : Nat) (par lst : Option Nat) (at_ : Nat) (ho : 0 < o) (ho2 : o < 40) (hpar : a = true → ∀ x, par = some x → x ≤ 40 ∧ at_ ≤ (ki (tk S o) x).length) (hs : kd M s = 4) (h98 : fI M 98 s = b2i a) (hst : a = true → fR M 99 s = some (pa o) ∧ fR M 100 s = par.map pa ∧ fR M 101 s = lst.map pa ∧ fI M 102 s = nI at_) : Ct l Θ y_Tback 7 (kC cp - kC (cpBk a S cp o par)) (kS cp - kS (cpBk a S cp o par)) [.ref T, .ref s] M (pV fun N => PA N pa li (if a = true then bkS S o par lst at_ else S) (cpBk a S cp o par) ∧ Fr (PZ M pa li) M N) := by
  have hko := hP.kp (o := o) (by omega)
  refine Ct.start (cc := b_Tback) (nL := 3) (ret := none) [some (.ref T), some (.ref s), none] mi_Tback.1 (by decide +kernel) (by intro v hv; simp at hv; rcases hv with rfl | rfl <;> rfl) (by simp) rfl (fun p e st m args below meth c hC => ?_)
  refine r_aload_n hC 1 d_Tback_0 rfl rfl ?_
  refine r_getI hC 3 2 98 fl_T85 (by exact hs) d_Tback_1 rfl rfl (by exact h98) ?_
  cases a with
  | false =>
    refine r_if_ne hC 8 d_Tback_4 (by decide) (fun z => absurd rfl z) (fun _ => ?_)
    exact r_vret hC d_Tback_7 (Nat.zero_le _) (Nat.zero_le _) ⟨rfl, hP, Fr.rf⟩
  | true =>
    obtain ⟨h99, h100, h101, h102⟩ := hst rfl
    refine r_if_ne hC 8 d_Tback_4 (by decide) (fun _ => ?_) (fun z => absurd z (by decide))
    refine r_aload_n hC 1 d_Tback_8 rfl rfl ?_
    refine r_getS hC 3 3 99 fl_T88 (by exact hs) d_Tback_9 rfl rfl (by exact h99) ?_
    refine r_as2 hC d_Tback_12 ?_
    refine r_aload_n hC 0 d_Tback_13 rfl rfl ?_
    refine r_aload_n hC 2 d_Tback_14 rfl rfl ?_
    refine r_cVv hC [.ref (pa o)] rfl (c_Ttake l Θ M T hT pa li S cp hP hW o (by omega)) mi_Ttake lk_T135 in_Ttake (ci := 4) rfl rfl (by exact hT) rfl (Nat.le_of_ble_eq_true rfl) ⟨Nat.le_of_ble_eq_true rfl, Nat.le_of_ble_eq_true rfl⟩ ⟨Nat.zero_le _, Nat.zero_le _⟩ d_Tback_15 (fun M2 h2 => ?_)
    obtain ⟨hP2, f2⟩ := h2
    have hnz := PZ.not hP hs (by omega)
    have q2 := f2.2 s (by omega) hnz
    have hs2 : kd M2 s = 4 := f2.k hs
    have hns : s ≠ pa o := fun z => by rw [z, hko] at hs; omega
    refine r_aload_n hC 2 d_Tback_18 rfl rfl ?_
    refine r_aload_n hC 1 d_Tback_19 rfl rfl ?_
    refine r_getR hC 3 5 101 fl_T95 (by exact hs2) d_Tback_20 rfl rfl (by exact ((q2.2.2.1 101).trans h101)) ?_
    refine r_putR hC 1 3 35 fl_T92 rfl (by exact hP2.kp (by omega)) d_Tback_23 (v := (lst.map pa)) rfl rfl ?_
    obtain ⟨hP3, f3⟩ := hP2.slq (o := o) (by omega) lst
    have hnz2 := PZ.not hP2 hs2 (by omega)
    have q3 := f3.2 s (by omega) hnz2
    have hs3 : kd (sR M2 35 (pa o) (lst.map pa)) s = 4 := f3.k hs2
    have h100' := (q3.2.2.1 100).trans ((q2.2.2.1 100).trans h100)
    have h102' := (q3.2.1 102).trans ((q2.2.1 102).trans h102)
    have g3 := f2.trans f3 (PZ.old f2)
    refine r_aload_n hC 1 d_Tback_26 rfl rfl ?_
    refine r_getR hC 3 4 100 fl_T91 (by exact hs3) d_Tback_27 rfl rfl (by exact h100') ?_
    cases hpc : par with
    | some p2 =>
      obtain ⟨hp40, hat⟩ := hpar rfl p2 hpc
      rw [hpc] at h100'
      have h100' : fR (sR M2 35 (pa o) (lst.map pa)) 100 s = some (pa p2) := h100'
      refine r_ifnull hC (r := some (pa p2)) 49 d_Tback_30 (by decide) (fun z => by cases z) (fun _ _ => ?_)
      refine r_aload_n hC 0 d_Tback_33 rfl rfl ?_
      refine r_aload_n hC 2 d_Tback_34 rfl rfl ?_
      refine r_aload_n hC 1 d_Tback_35 rfl rfl ?_
      refine r_getS hC 3 4 100 fl_T91 (by exact hs3) d_Tback_36 rfl rfl (by exact h100') ?_
      refine r_aload_n hC 1 d_Tback_39 rfl rfl ?_
      refine r_getI hC 3 6 102 fl_T96 (by exact hs3) d_Tback_40 rfl rfl (by exact h102') ?_
      refine r_cVv hC [.ref (pa o), .ref (pa p2), .int (nI at_)] rfl (c_Tput l Θ _ T (f3.k (f2.k hT)) pa li (sl (tk S o) o lst) cp hP3 o p2 at_ (by omega) hp40 hat (tk_len hW o p2) (tk_b hW o p2) hcp) mi_Tput lk_T121 in_Tput (ci := 4) rfl rfl (by exact f3.k (f2.k hT)) rfl (Nat.le_of_ble_eq_true rfl) ⟨Nat.le_of_ble_eq_true rfl, Nat.le_of_ble_eq_true rfl⟩ ⟨Nat.le_of_eq (Nat.zero_add _), Nat.le_of_eq (Nat.zero_add _)⟩ d_Tback_43 (fun M4 h4 => ?_)
      obtain ⟨hP4, f4⟩ := h4
      refine r_goto hC 65 d_Tback_46 (by decide) ?_
      exact r_vret hC d_Tback_65 (Nat.le_of_eq (Nat.zero_add _)) (Nat.le_of_eq (Nat.zero_add _)) ⟨rfl, hP4, g3.trans f4 (PZ.old g3)⟩
    | none =>
      refine r_ifnull hC (r := none) 49 d_Tback_30 (by decide) (fun _ => ?_) (fun _ z => by cases z)
      have h32 := (hP3.1 o (by omega)).2.1
      have hoI : oI o = nI o := if_neg (by omega)
      rw [hoI] at h32
      refine r_aload_n hC 2 d_Tback_49 rfl rfl ?_
      refine r_aload_n hC 2 d_Tback_50 rfl rfl ?_
      refine r_getI hC 1 0 32 fl_T149 (by exact hP3.kp (by omega)) d_Tback_51 rfl rfl (by exact h32) ?_
      refine r_if_ne hC 61 d_Tback_54 (by decide) (fun _ => ?_) (fun z => absurd z (nI_ne0 ho (by omega)))
      obtain ⟨hP4, f4⟩ := hP3.stq (o := o) (by omega) false
      refine r_iconst hC 0 d_Tback_61 (by decide) ?_
      refine r_putI hC 1 4 36 fl_T45 rfl (by exact hP3.kp (by omega)) d_Tback_62 rfl rfl rfl rfl ?_
      refine r_vret hC d_Tback_65 (Nat.zero_le _) (Nat.zero_le _) ⟨rfl, ?_, g3.trans f4 (PZ.old g3)⟩
      show PA _ pa li (sth (sl (tk S o) o lst) o (decide (o = 0))) cp
      rw [decide_eq_false (by omega)]
      exact hP4
