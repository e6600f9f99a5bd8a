/-- rows that a tree does: not the undoing ones -/
def rOk (r : RowT) : Prop := 0 < rO r ∧ rO r < 40 ∧ rS r < 4 ∧ (rS r = 1 → ∃ q, rP r = some q ∧ q < 40) ∧ ∀ b, rB r = some b → b < 40
noncomputable def gR (u : Bool) (S : TS) (r : RowT) : TS × Bool := if u = true then (S, false) else doRow S r
def cpRm (S : TS) (cp : Nat → Nat) (o : Nat) : Nat → Nat := if th S o = true ∧ pr S o ≠ some 40 then cpP cp (tk S o) 40 else cp
noncomputable def cpR (S : TS) (cp : Nat → Nat) (r : RowT) : Nat → Nat := if rS r = 0 then cpP cp S 40 else if rS r = 1 then cpMv S cp (rO r) ((rP r).getD 0) else if rS r = 2 then cpRm S cp (rO r) else cpRs S cp (rO r)
noncomputable def cpGo (u : Bool) (S : TS) (cp : Nat → Nat) (r : RowT) : Nat → Nat := if u = true then cp else cpR S cp r
theorem c_Tgo (l : Launch) (Θ : Glob) (M : Mem) (pa li : Nat → Nat) (S : TS) (cp : Nat → Nat) (hP : PA M pa li S cp) (hW : WF S) (hcp : CPok cp) (T P SL KN UD : Nat) (hT : TrO M T P SL KN UD pa) (s rr n : Nat) (row : RowT) (u : Bool) (hs : kd M s = 4) (h96 : fR M 96 s = some rr) (h97 : fI M 97 s = b2i u) (hrr : RwO M rr n row) (hro : rOk row) (hmk : rS row = 0 → th S (rO row) = false) : Ct l Θ y_Tgo 15 (kC cp - kC (cpGo u S cp row)) (kS cp - kS (cpGo u S cp row)) [.ref T, .ref s] M (pV fun N => PA N pa li (gR u S row).1 (cpGo u S cp row) ∧ Fr (GZ M pa li s) M N ∧ Sti N pa s (gR u S row).2 S (rO row) ∧ StK M N s) := by
  obtain ⟨ho, ho2, hs4, hmv, hbh⟩ := hro
  refine Ct.start (cc := b_Tgo) (nL := 3) (ret := none) [some (.ref T), some (.ref s), none] mi_Tgo.1 (by decide +kernel) (by intro v hv; simp at hv; rcases hv with rfl | rfl <;> rfl) (by simp) rfl (fun p e st m args below meth c hC => ?_)
  refine r_aload_n hC 1 d_Tgo_0 rfl rfl ?_
  refine r_iconst hC 0 d_Tgo_1 (by decide) ?_
  refine r_putI hC 3 2 98 fl_T85 rfl (by exact hs) d_Tgo_2 rfl rfl rfl rfl ?_
  have f0 := sI_fr M 98 s 0
  have hP0 := hP.st hs f0
  have h980 : fI (sI M 98 s 0) 98 s = 0 := up2_self _ _ _ _
  have k0 : StK M (sI M 98 s 0) s := ⟨rfl, rfl⟩
  have hrs : rr ≠ s := fun z => by have := hrr.1; rw [z] at this; omega
  have hrr0 := hrr.fr f0 hrs
  have hT0 : TrO (sI M 98 s 0) T P SL KN UD pa := hT.fr f0 (fun w => by have w : T = s := w; have := hT.1; rw [w] at this; omega) (fun w => by have w : P = s := w; have := hT.2.2.2.2.2.2.1; rw [w] at this; omega)
  have hs0 : kd (sI M 98 s 0) s = 4 := hs
  have h960 : fR (sI M 98 s 0) 96 s = some rr := h96
  have h970 : fI (sI M 98 s 0) 97 s = b2i u := h97
  have g0 : Fr (GZ M pa li s) M (sI M 98 s 0) := f0.mono fun _ _ h => Or.inr h
  have pz0 : ∀ b, PZ (sI M 98 s 0) pa li b → PZ M pa li b := fun b z => z
  generalize sI M 98 s 0 = M0 at *
  refine r_aload_n hC 1 d_Tgo_5 rfl rfl ?_
  refine r_getI hC 3 1 97 fl_T99 (by exact hs0) d_Tgo_6 rfl rfl (by exact h970) ?_
  refine r_if_eq hC 13 d_Tgo_9 (by decide) (fun z => ?_) (fun z => ?_)
  · have hu := b2i_eq z
    subst hu
    have hgr : gR false S row = doRow S row := rfl
    have hcg : cpGo false S cp row = cpR S cp row := rfl
    rw [hgr, hcg]
    have hko := hP0.kp (o := rO row) (by omega)
    have h68 := hrr0.2.2.2.2.2.1
    have h67 := hrr0.2.2.2.2.1
    refine r_aload_n hC 0 d_Tgo_13 rfl rfl ?_
    refine r_getS hC 4 1 129 fl_T11 (by exact hT0.1) d_Tgo_14 rfl rfl (by exact hT0.2.1) ?_
    refine r_aload_n hC 1 d_Tgo_17 rfl rfl ?_
    refine r_getS hC 3 0 96 fl_T102 (by exact hs0) d_Tgo_18 rfl rfl (by exact h960) ?_
    refine r_cVi hC [] rfl (c_Robject l Θ M0 rr hrr0.1) mi_Robject lk_T106 in_Robject (ci := 2) rfl rfl (by exact hrr0.1) rfl (Nat.le_of_ble_eq_true rfl) ⟨Nat.le_of_ble_eq_true rfl, Nat.le_of_ble_eq_true rfl⟩ ⟨Nat.zero_le _, Nat.zero_le _⟩ d_Tgo_21 (fun r M1 h1 => ?_)
    obtain ⟨rfl, rfl⟩ := h1
    rw [h68]
    refine r_aaldS hC 3 (rO row) (by rw [hT0.2.2.2.2.2.2.1]; rfl) (by omega) rfl (by rw [hT0.2.2.2.2.2.2.2.1]; exact ho2) (by rw [hT0.2.2.2.2.2.2.2.1]; omega) d_Tgo_24 (hT0.2.2.2.2.2.2.2.2 _ ho2) ?_
    refine r_as2 hC d_Tgo_25 ?_
    refine r_aload_n hC 1 d_Tgo_26 rfl rfl ?_
    refine r_getS hC 3 0 96 fl_T102 (by exact hs0) d_Tgo_27 rfl rfl (by exact h960) ?_
    refine r_cVi hC [] rfl (c_Rsort l Θ M1 rr hrr0.1) mi_Rsort lk_T111 in_Rsort (ci := 2) rfl rfl (by exact hrr0.1) rfl (Nat.le_of_ble_eq_true rfl) ⟨Nat.le_of_ble_eq_true rfl, Nat.le_of_ble_eq_true rfl⟩ ⟨Nat.zero_le _, Nat.zero_le _⟩ d_Tgo_30 (fun r M2 h2 => ?_)
    obtain ⟨rfl, rfl⟩ := h2
    rw [h67]
    rcases (show rS row = 0 ∨ rS row = 1 ∨ rS row = 2 ∨ rS row = 3 by omega) with hsr | hsr | hsr | hsr
    · have hth := hmk hsr
      have hc : cpR S cp row = cpP cp S 40 := if_pos hsr
      have hpn : pr S (rO row) = none := by
        cases hp : pr S (rO row) with
        | none => rfl
        | some x => rw [(hW.ch hp).1] at hth; cases hth
      rw [doRow_0 hsr, hc, hsr]
      refine r_tableIn hC 60 d_Tgo_33 (by decide) (by decide) rfl (by decide) ?_
      refine r_aload_n hC 0 d_Tgo_60 rfl rfl ?_
      refine r_aload_n hC 1 d_Tgo_61 rfl rfl ?_
      refine r_aload_n hC 2 d_Tgo_62 rfl rfl ?_
      refine r_cVv hC [.ref s, .ref (pa (rO row))] rfl (c_Tbegin l Θ M2 T s hT0.1 hs0 pa li S cp hP0 hW (rO row) (by omega)) mi_Tbegin lk_T114 in_Tbegin (ci := 4) rfl rfl (by exact hT0.1) rfl (Nat.le_of_ble_eq_true rfl) ⟨Nat.le_of_ble_eq_true rfl, Nat.le_of_ble_eq_true rfl⟩ ⟨Nat.zero_le _, Nat.zero_le _⟩ d_Tgo_63 (fun M3 h3 => ?_)
      have f2 := bgM_fr M2 s pa S (rO row)
      have st2 := bgM_sti (M := M2) (pa := pa) (S := S) (o := rO row) hs0
      have k2 := bgM_k M2 s pa S (rO row)
      rw [← h3] at f2 st2 k2
      have hP2 := hP0.st hs0 f2
      have hs2 : kd M3 s = 4 := f2.k hs0
      obtain ⟨hP3, f3⟩ := hP2.stq (o := rO row) (by omega) true
      obtain ⟨hP4, f4⟩ := hP3.slq (o := rO row) (by omega) (some 0)
      have hT3 : TrO (sI M3 36 (pa (rO row)) (b2i true)) T P SL KN UD pa := (hT0.fr f2 (fun w => by have w : T = s := w; have := hT0.1; rw [w] at this; omega) (fun w => by have w : P = s := w; have := hT0.2.2.2.2.2.2.1; rw [w] at this; omega)).fr f3 (PZ.not hP2 (f2.k hT0.1) (by omega)) (PZ.not hP2 (f2.k hT0.2.2.2.2.2.2.1) (by omega))
      have hT4 := hT3.fr f4 (PZ.not hP3 hT3.1 (by omega)) (PZ.not hP3 hT3.2.2.2.2.2.2.1 (by omega))
      refine r_aload_n hC 2 d_Tgo_66 rfl rfl ?_
      refine r_iconst hC 1 d_Tgo_67 (by decide) ?_
      refine r_putI hC 1 4 36 fl_T45 rfl (by exact hP2.kp (by omega)) d_Tgo_68 rfl rfl rfl rfl ?_
      refine r_aload_n hC 2 d_Tgo_71 rfl rfl ?_
      refine r_aload_n hC 0 d_Tgo_72 rfl rfl ?_
      refine r_getS hC 4 1 129 fl_T11 (by exact hT3.1) d_Tgo_73 rfl rfl (by exact hT3.2.1) ?_
      refine r_iconst hC 0 d_Tgo_76 (by decide) ?_
      refine r_aaldS hC 3 0 (by exact (by rw [hT3.2.2.2.2.2.2.1]; rfl : akd (kd (sI M3 36 (pa (rO row)) (b2i true)) P) = some 3)) (by omega) rfl (by exact (by rw [hT3.2.2.2.2.2.2.2.1]; omega : 0 < ln (sI M3 36 (pa (rO row)) (b2i true)) P)) (by exact (by rw [hT3.2.2.2.2.2.2.2.1]; omega : ln (sI M3 36 (pa (rO row)) (b2i true)) P < 2 ^ 31)) d_Tgo_77 (by exact hT3.2.2.2.2.2.2.2.2 0 (by omega)) ?_
      refine r_putR hC 1 3 35 fl_T92 rfl (by exact hP3.kp (by omega)) d_Tgo_78 (v := ((some 0).map pa)) rfl rfl ?_
      have h33b := (hP4.1 40 (by omega)).2.2.1
      have hLb := hP4.2.1 40 (by omega)
      have hszb := hLb.len
      rw [List.length_map] at hszb
      refine r_aload_n hC 0 d_Tgo_81 rfl rfl ?_
      refine r_aload_n hC 2 d_Tgo_82 rfl rfl ?_
      refine r_aload_n hC 0 d_Tgo_83 rfl rfl ?_
      refine r_getS hC 4 2 130 fl_T20 (by exact hT4.1) d_Tgo_84 rfl rfl (by exact hT4.2.2.1) ?_
      refine r_aload_n hC 0 d_Tgo_87 rfl rfl ?_
      refine r_getS hC 4 2 130 fl_T20 (by exact hT4.1) d_Tgo_88 rfl rfl (by exact hT4.2.2.1) ?_
      refine r_getS hC 1 1 33 fl_T70 (by exact hP4.kp (by omega)) d_Tgo_91 rfl rfl (by exact h33b) ?_
      refine r_cVi hC [] rfl (c_Asize l Θ _ (li 40) hLb.1) mi_Asize lk_T118 in_Asize (ci := 6) rfl rfl (by exact hLb.1) rfl (Nat.le_of_ble_eq_true rfl) ⟨Nat.le_of_ble_eq_true rfl, Nat.le_of_ble_eq_true rfl⟩ ⟨Nat.zero_le _, Nat.zero_le _⟩ d_Tgo_94 (fun r M5 h5 => ?_)
      obtain ⟨rfl, rfl⟩ := h5
      rw [show fI (sR (sI M3 36 (pa (rO row)) 1) 35 (pa (rO row)) (Option.map pa (some 0))) 193 (li 40) = _ from hszb]
      refine r_cVv hC [.ref (pa (rO row)), .ref (pa 40), .int (nI (ki (sl (sth S (rO row) true) (rO row) (some 0)) 40).length)] rfl (c_Tput l Θ _ T hT4.1 pa li (sl (sth S (rO row) true) (rO row) (some 0)) cp hP4 (rO row) 40 _ (by omega) (by omega) (Nat.le_refl _) (hW.klen 40) (fun x hx => by have := (hW.klt hx).1; omega) hcp) mi_Tput lk_T121 in_Tput (ci := 4) rfl rfl (by exact hT4.1) rfl (Nat.le_of_ble_eq_true rfl) ⟨Nat.le_of_ble_eq_true rfl, Nat.le_of_ble_eq_true rfl⟩ ⟨Nat.le_of_eq (Nat.zero_add _), Nat.le_of_eq (Nat.zero_add _)⟩ d_Tgo_97 (fun M6 h6 => ?_)
      obtain ⟨hP6, f6⟩ := h6
      have q3 := GZ.seq (g0.trans (f2.mono fun _ _ h => Or.inr h : Fr (GZ M pa li s) M2 M3) (fun _ _ h => h)) f3
      have q4 := GZ.seq q3 f4
      have q6 := GZ.seq q4 f6
      have n3 := PZ.not hP2 hs2 (by omega)
      have n4 := PZ.not hP3 (f3.k hs2) (by omega)
      have n6 := PZ.not hP4 (f4.k (f3.k hs2)) (by omega)
      refine r_goto hC 179 d_Tgo_100 (by decide) ?_
      refine r_vret hC d_Tgo_179 (Nat.le_of_eq (Nat.zero_add _)) (Nat.le_of_eq (Nat.zero_add _)) ⟨rfl, hP6, q6, ?_, ?_⟩
      · exact ((st2.fr f3 n3).fr f4 n4).fr f6 n6
      · exact (((k0.trans k2).trans (StK.of f3 (by omega) n3)).trans (StK.of f4 (by rw [f3.k hs2]; omega) n4)).trans (StK.of f6 (by rw [f4.k (f3.k hs2)]; omega) n6)
    · obtain ⟨q, hq, hq40⟩ := hmv hsr
      have hc : cpR S cp row = cpMv S cp (rO row) q := by unfold cpR; rw [if_neg (by omega), if_pos hsr, hq]; rfl
      have hd : doRow S row = dMove S (rO row) q (rB row) := by rw [doRow_1 hsr, hq]; rfl
      have h69 := hrr0.2.2.2.2.2.2.1
      rw [hq] at h69
      have h69 : fI M2 69 rr = nI q := h69
      rw [hd, hc, hsr]
      refine r_tableIn hC 103 d_Tgo_33 (by decide) (by decide) rfl (by decide) ?_
      refine r_aload_n hC 0 d_Tgo_103 rfl rfl ?_
      refine r_aload_n hC 1 d_Tgo_104 rfl rfl ?_
      refine r_aload_n hC 2 d_Tgo_105 rfl rfl ?_
      refine r_aload_n hC 0 d_Tgo_106 rfl rfl ?_
      refine r_getS hC 4 1 129 fl_T11 (by exact hT0.1) d_Tgo_107 rfl rfl (by exact hT0.2.1) ?_
      refine r_aload_n hC 1 d_Tgo_110 rfl rfl ?_
      refine r_getS hC 3 0 96 fl_T102 (by exact hs0) d_Tgo_111 rfl rfl (by exact h960) ?_
      refine r_cVi hC [] rfl (c_Rto l Θ M2 rr hrr0.1) mi_Rto lk_T125 in_Rto (ci := 2) rfl rfl (by exact hrr0.1) rfl (Nat.le_of_ble_eq_true rfl) ⟨Nat.le_of_ble_eq_true rfl, Nat.le_of_ble_eq_true rfl⟩ ⟨Nat.zero_le _, Nat.zero_le _⟩ d_Tgo_114 (fun r M3 h3 => ?_)
      obtain ⟨rfl, rfl⟩ := h3
      rw [h69]
      refine r_aaldS hC 3 q (by rw [hT0.2.2.2.2.2.2.1]; rfl) (by omega) rfl (by rw [hT0.2.2.2.2.2.2.2.1]; exact hq40) (by rw [hT0.2.2.2.2.2.2.2.1]; omega) d_Tgo_117 (hT0.2.2.2.2.2.2.2.2 _ hq40) ?_
      refine r_cVv hC [.ref s, .ref (pa (rO row)), .ref (pa q)] rfl (c_Tmove l Θ M3 pa li S cp hP0 hW hcp T P SL KN UD hT0 s rr n row hs0 h980 h960 hrr0 (rO row) q (rB row) rfl ho ho2 hq40 hbh) mi_Tmove lk_T128 in_Tmove (ci := 4) rfl rfl (by exact hT0.1) rfl (Nat.le_of_ble_eq_true rfl) ⟨Nat.le_of_ble_eq_true rfl, Nat.le_of_ble_eq_true rfl⟩ ⟨Nat.le_of_eq (Nat.zero_add _), Nat.le_of_eq (Nat.zero_add _)⟩ d_Tgo_118 (fun M4 h4 => ?_)
      obtain ⟨e1, e2, e3, e4⟩ := h4
      refine r_goto hC 179 d_Tgo_121 (by decide) ?_
      exact r_vret hC d_Tgo_179 (Nat.le_of_eq (Nat.zero_add _)) (Nat.le_of_eq (Nat.zero_add _)) ⟨rfl, e1, g0.trans e2 (fun b hb z => z.imp (PZ.old g0 b hb) id), e3, k0.trans e4⟩
    · have hc : cpR S cp row = cpRm S cp (rO row) := by unfold cpR; rw [if_neg (by omega), if_neg (by omega), if_pos hsr]
      rw [doRow_2 hsr, hc, hsr]
      have h36 := (hP0.1 (rO row) (by omega)).2.2.2.2.2
      have no : ¬ (th S (rO row) = true ∧ pr S (rO row) ≠ some 40) → (pV fun N => PA N pa li (dRem S (rO row)).1 (cpRm S cp (rO row)) ∧ Fr (GZ M pa li s) M N ∧ Sti N pa s (dRem S (rO row)).2 S (rO row) ∧ StK M N s) none M2 := by
        intro hn
        have e1 : dRem S (rO row) = (S, false) := if_neg hn
        have e2 : cpRm S cp (rO row) = cp := if_neg hn
        rw [e1, e2]
        exact ⟨rfl, hP0, g0, ⟨hs0, h980, fun w => by cases w⟩, k0⟩
      refine r_tableIn hC 124 d_Tgo_33 (by decide) (by decide) rfl (by decide) ?_
      refine r_aload_n hC 2 d_Tgo_124 rfl rfl ?_
      refine r_getI hC 1 4 36 fl_T45 (by exact hko) d_Tgo_125 rfl rfl (by exact h36) ?_
      refine r_if_eq hC 139 d_Tgo_128 (by decide) (fun z2 => ?_) (fun z2 => ?_)
      · exact r_vret hC d_Tgo_139 (Nat.zero_le _) (Nat.zero_le _) (no fun w => by rw [b2i_eq z2] at w; cases w.1)
      · skip
        refine r_aload_n hC 0 d_Tgo_131 rfl rfl ?_
        refine r_aload_n hC 2 d_Tgo_132 rfl rfl ?_
        refine r_cVi hC [.ref (pa (rO row))] rfl (c_TisInBin l Θ M2 pa li S cp hP0 hW T P SL KN UD hT0 (rO row) (by omega)) mi_TisInBin lk_T132 in_TisInBin (ci := 4) rfl rfl (by exact hT0.1) rfl (Nat.le_of_ble_eq_true rfl) ⟨Nat.le_of_ble_eq_true rfl, Nat.le_of_ble_eq_true rfl⟩ ⟨Nat.zero_le _, Nat.zero_le _⟩ d_Tgo_133 (fun r M3 h3 => ?_)
        obtain ⟨rfl, rfl⟩ := h3
        refine r_if_eq hC 140 d_Tgo_136 (by decide) (fun z3 => ?_) (fun z3 => ?_)
        · have hnb : pr S (rO row) ≠ some 40 := fun w => by have := b2i_eq z3; rw [dm_t w] at this; cases this
          have hcond : th S (rO row) = true ∧ pr S (rO row) ≠ some 40 := ⟨b2i_ne z2, hnb⟩
          have e1 : dRem S (rO row) = (pt (tk S (rO row)) (rO row) 40 (ki (tk S (rO row)) 40).length, true) := if_pos hcond
          have e2 : cpRm S cp (rO row) = cpP cp (tk S (rO row)) 40 := if_pos hcond
          rw [e1, e2]
          refine r_aload_n hC 0 d_Tgo_140 rfl rfl ?_
          refine r_aload_n hC 1 d_Tgo_141 rfl rfl ?_
          refine r_aload_n hC 2 d_Tgo_142 rfl rfl ?_
          refine r_cVv hC [.ref s, .ref (pa (rO row))] rfl (c_Tbegin l Θ M3 T s hT0.1 hs0 pa li S cp hP0 hW (rO row) (by omega)) mi_Tbegin lk_T114 in_Tbegin (ci := 4) rfl rfl (by exact hT0.1) rfl (Nat.le_of_ble_eq_true rfl) ⟨Nat.le_of_ble_eq_true rfl, Nat.le_of_ble_eq_true rfl⟩ ⟨Nat.zero_le _, Nat.zero_le _⟩ d_Tgo_143 (fun M4 h4 => ?_)
          have f2 := bgM_fr M3 s pa S (rO row)
          have st2 := bgM_sti (M := M3) (pa := pa) (S := S) (o := rO row) hs0
          have k2 := bgM_k M3 s pa S (rO row)
          rw [← h4] at f2 st2 k2
          have hP2 := hP0.st hs0 f2
          have hs2 : kd M4 s = 4 := f2.k hs0
          refine r_aload_n hC 0 d_Tgo_146 rfl rfl ?_
          refine r_aload_n hC 2 d_Tgo_147 rfl rfl ?_
          refine r_cVv hC [.ref (pa (rO row))] rfl (c_Ttake l Θ M4 T (f2.k hT0.1) pa li S cp hP2 hW (rO row) (by omega)) mi_Ttake lk_T135 in_Ttake (ci := 4) rfl rfl (by exact f2.k hT0.1) rfl (Nat.le_of_ble_eq_true rfl) ⟨Nat.le_of_ble_eq_true rfl, Nat.le_of_ble_eq_true rfl⟩ ⟨Nat.zero_le _, Nat.zero_le _⟩ d_Tgo_148 (fun M5 h5 => ?_)
          obtain ⟨hP3, f3⟩ := h5
          have hT3 : TrO M5 T P SL KN UD pa := (hT0.fr f2 (fun w => by have w : T = s := w; have := hT0.1; rw [w] at this; omega) (fun w => by have w : P = s := w; have := hT0.2.2.2.2.2.2.1; rw [w] at this; omega)).fr f3 (PZ.not hP2 (f2.k hT0.1) (by omega)) (PZ.not hP2 (f2.k hT0.2.2.2.2.2.2.1) (by omega))
          have h33b := (hP3.1 40 (by omega)).2.2.1
          have hLb := hP3.2.1 40 (by omega)
          have hszb := hLb.len
          rw [List.length_map] at hszb
          refine r_aload_n hC 0 d_Tgo_151 rfl rfl ?_
          refine r_aload_n hC 2 d_Tgo_152 rfl rfl ?_
          refine r_aload_n hC 0 d_Tgo_153 rfl rfl ?_
          refine r_getS hC 4 2 130 fl_T20 (by exact hT3.1) d_Tgo_154 rfl rfl (by exact hT3.2.2.1) ?_
          refine r_aload_n hC 0 d_Tgo_157 rfl rfl ?_
          refine r_getS hC 4 2 130 fl_T20 (by exact hT3.1) d_Tgo_158 rfl rfl (by exact hT3.2.2.1) ?_
          refine r_getS hC 1 1 33 fl_T70 (by exact hP3.kp (by omega)) d_Tgo_161 rfl rfl (by exact h33b) ?_
          refine r_cVi hC [] rfl (c_Asize l Θ _ (li 40) hLb.1) mi_Asize lk_T118 in_Asize (ci := 6) rfl rfl (by exact hLb.1) rfl (Nat.le_of_ble_eq_true rfl) ⟨Nat.le_of_ble_eq_true rfl, Nat.le_of_ble_eq_true rfl⟩ ⟨Nat.zero_le _, Nat.zero_le _⟩ d_Tgo_164 (fun r M6 h6 => ?_)
          obtain ⟨rfl, rfl⟩ := h6
          rw [hszb]
          refine r_cVv hC [.ref (pa (rO row)), .ref (pa 40), .int (nI (ki (tk S (rO row)) 40).length)] rfl (c_Tput l Θ _ T hT3.1 pa li (tk S (rO row)) cp hP3 (rO row) 40 _ (by omega) (by omega) (Nat.le_refl _) (tk_len hW _ 40) (tk_b hW _ 40) hcp) mi_Tput lk_T121 in_Tput (ci := 4) rfl rfl (by exact hT3.1) rfl (Nat.le_of_ble_eq_true rfl) ⟨Nat.le_of_ble_eq_true rfl, Nat.le_of_ble_eq_true rfl⟩ ⟨Nat.le_of_eq (Nat.zero_add _), Nat.le_of_eq (Nat.zero_add _)⟩ d_Tgo_167 (fun M7 h7 => ?_)
          obtain ⟨hP6, f6⟩ := h7
          have q3 := GZ.seq (g0.trans (f2.mono fun _ _ h => Or.inr h : Fr (GZ M pa li s) M3 M4) (fun _ _ h => h)) f3
          have q6 := GZ.seq q3 f6
          have n3 := PZ.not hP2 hs2 (by omega)
          have n6 := PZ.not hP3 (f3.k hs2) (by omega)
          refine r_goto hC 179 d_Tgo_170 (by decide) ?_
          refine r_vret hC d_Tgo_179 (Nat.le_of_eq (Nat.zero_add _)) (Nat.le_of_eq (Nat.zero_add _)) ⟨rfl, hP6, q6, (st2.fr f3 n3).fr f6 n6, ?_⟩
          exact ((k0.trans k2).trans (StK.of f3 (by omega) n3)).trans (StK.of f6 (by rw [f3.k hs2]; omega) n6)
        · exact r_vret hC d_Tgo_139 (Nat.zero_le _) (Nat.zero_le _) (no fun w => w.2 (dm_iff.mp (b2i_ne z3)))
    · have hc : cpR S cp row = cpRs S cp (rO row) := by unfold cpR; rw [if_neg (by omega), if_neg (by omega), if_neg (by omega)]
      rw [doRow_3 (by omega), hc, hsr]
      refine r_tableOut hC 173 d_Tgo_33 (Or.inr (by decide)) (by decide) ?_
      refine r_aload_n hC 0 d_Tgo_173 rfl rfl ?_
      refine r_aload_n hC 1 d_Tgo_174 rfl rfl ?_
      refine r_aload_n hC 2 d_Tgo_175 rfl rfl ?_
      refine r_cVv hC [.ref s, .ref (pa (rO row))] rfl (c_Trestore l Θ M2 pa li S cp hP0 hW hcp T P SL KN UD hT0 s hs0 h980 (rO row) ho ho2) mi_Trestore lk_T139 in_Trestore (ci := 4) rfl rfl (by exact hT0.1) rfl (Nat.le_of_ble_eq_true rfl) ⟨Nat.le_of_ble_eq_true rfl, Nat.le_of_ble_eq_true rfl⟩ ⟨Nat.le_of_eq (Nat.zero_add _), Nat.le_of_eq (Nat.zero_add _)⟩ d_Tgo_176 (fun M4 h4 => ?_)
      obtain ⟨e1, e2, e3, e4⟩ := h4
      exact r_vret hC d_Tgo_179 (Nat.le_of_eq (Nat.zero_add _)) (Nat.le_of_eq (Nat.zero_add _)) ⟨rfl, e1, g0.trans e2 (fun b hb z => z.imp (PZ.old g0 b hb) id), e3, k0.trans e4⟩
  · have hu := b2i_ne z
    subst hu
    exact r_vret hC d_Tgo_12 (Nat.zero_le _) (Nat.zero_le _) ⟨rfl, hP0, g0, ⟨hs0, h980, fun w => by cases w⟩, k0⟩
