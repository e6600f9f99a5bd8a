theorem c_Minit (l : Launch) (Θ : Glob) (M : Mem) (Y : Nat) (hk : kd M Y = 6) (ho : ow M Y = 11) (h0 : ∀ f, fI M f Y = 0) : Ct l Θ y_Minit 2 30 10000 [.ref Y] M (pV fun N => (∃ ar, MO N Y ar G0) ∧ Fr (fun b => b = Y) M N) := by
  refine Ct.start (cc := b_Minit) (nL := 1) (ret := none) [some (.ref Y)] mi_Minit.1 (by decide +kernel) (by intro v hv; simp at hv; rcases hv with rfl <;> rfl) (by simp) rfl (fun p e s m args below meth c hC => ?_)
  refine r_aload_n hC 0 d_Minit_0 rfl rfl ?_
  refine r_objInit hC rfl lk_M1 ob_in ob_co d_Minit_1 (Nat.le_of_ble_eq_true rfl) (Nat.le_of_ble_eq_true rfl) ?_
  have hI0 : MI M Y [] := ⟨⟨hk, ho⟩, (fun q hq => by cases hq), (fun q r hq => by cases hq)⟩
  have J0 : ∀ f, fI M f Y = (fun _ => 0 : Nat → Int32) f := h0
  have F0 : Fr (fun b => b = Y) M M := Fr.rf
  refine r_aload_n hC 0 d_Minit_4 rfl rfl ?_
  refine r_sipush hC 301 d_Minit_5 (by decide) ?_
  refine r_newaI hC 301 11 ac_int rfl (by omega) d_Minit_8 (Nat.le_of_ble_eq_true rfl) (Nat.le_of_ble_eq_true rfl) (fun q1 hq1 _ => ?_)
  have e1 : kd (nwA M q1 20 301 11) Y = 6 := (nwA_fr hq1).k hI0.1.1
  refine r_putFR hC 5 2 162 fl_M7 rfl rfl rfl (by exact e1) d_Minit_10 (v := (some q1)) rfl rfl ?_
  have hI1 : MI (sR (nwA M q1 20 301 11) 162 Y (some q1)) Y [(162, q1)] := hI0.add (f := 162) hq1 (by simp)
  have J1 : ∀ f, fI (sR (nwA M q1 20 301 11) 162 Y (some q1)) f Y = (fun _ => 0 : Nat → Int32) f := J0
  have F1 : Fr (fun b => b = Y) M (sR (nwA M q1 20 301 11) 162 Y (some q1)) := (F0.trans ((nwA_fr hq1).mono (Z' := fun b => b = Y) fun _ _ z => z.elim) (fun _ _ z => z)).trans (sR_fr _ _ _ _) (fun _ _ z => z)
  generalize sR (nwA M q1 20 301 11) 162 Y (some q1) = M1 at hI1 J1 F1 ⊢
  refine r_aload_n hC 0 d_Minit_13 rfl rfl ?_
  refine r_sipush hC 301 d_Minit_14 (by decide) ?_
  refine r_newaI hC 301 11 ac_int rfl (by omega) d_Minit_17 (Nat.le_of_ble_eq_true rfl) (Nat.le_of_ble_eq_true rfl) (fun q2 hq2 _ => ?_)
  have e2 : kd (nwA M1 q2 20 301 11) Y = 6 := (nwA_fr hq2).k hI1.1.1
  refine r_putFR hC 5 3 163 fl_M13 rfl rfl rfl (by exact e2) d_Minit_19 (v := (some q2)) rfl rfl ?_
  have hI2 : MI (sR (nwA M1 q2 20 301 11) 163 Y (some q2)) Y [(163, q2), (162, q1)] := hI1.add (f := 163) hq2 (by simp)
  have J2 : ∀ f, fI (sR (nwA M1 q2 20 301 11) 163 Y (some q2)) f Y = (fun _ => 0 : Nat → Int32) f := J1
  have F2 : Fr (fun b => b = Y) M (sR (nwA M1 q2 20 301 11) 163 Y (some q2)) := (F1.trans ((nwA_fr hq2).mono (Z' := fun b => b = Y) fun _ _ z => z.elim) (fun _ _ z => z)).trans (sR_fr _ _ _ _) (fun _ _ z => z)
  generalize sR (nwA M1 q2 20 301 11) 163 Y (some q2) = M2 at hI2 J2 F2 ⊢
  refine r_aload_n hC 0 d_Minit_22 rfl rfl ?_
  refine r_sipush hC 301 d_Minit_23 (by decide) ?_
  refine r_newaI hC 301 11 ac_int rfl (by omega) d_Minit_26 (Nat.le_of_ble_eq_true rfl) (Nat.le_of_ble_eq_true rfl) (fun q3 hq3 _ => ?_)
  have e3 : kd (nwA M2 q3 20 301 11) Y = 6 := (nwA_fr hq3).k hI2.1.1
  refine r_putFR hC 5 4 164 fl_M16 rfl rfl rfl (by exact e3) d_Minit_28 (v := (some q3)) rfl rfl ?_
  have hI3 : MI (sR (nwA M2 q3 20 301 11) 164 Y (some q3)) Y [(164, q3), (163, q2), (162, q1)] := hI2.add (f := 164) hq3 (by simp)
  have J3 : ∀ f, fI (sR (nwA M2 q3 20 301 11) 164 Y (some q3)) f Y = (fun _ => 0 : Nat → Int32) f := J2
  have F3 : Fr (fun b => b = Y) M (sR (nwA M2 q3 20 301 11) 164 Y (some q3)) := (F2.trans ((nwA_fr hq3).mono (Z' := fun b => b = Y) fun _ _ z => z.elim) (fun _ _ z => z)).trans (sR_fr _ _ _ _) (fun _ _ z => z)
  generalize sR (nwA M2 q3 20 301 11) 164 Y (some q3) = M3 at hI3 J3 F3 ⊢
  refine r_aload_n hC 0 d_Minit_31 rfl rfl ?_
  refine r_sipush hC 301 d_Minit_32 (by decide) ?_
  refine r_newaI hC 301 11 ac_int rfl (by omega) d_Minit_35 (Nat.le_of_ble_eq_true rfl) (Nat.le_of_ble_eq_true rfl) (fun q4 hq4 _ => ?_)
  have e4 : kd (nwA M3 q4 20 301 11) Y = 6 := (nwA_fr hq4).k hI3.1.1
  refine r_putFR hC 5 5 165 fl_M19 rfl rfl rfl (by exact e4) d_Minit_37 (v := (some q4)) rfl rfl ?_
  have hI4 : MI (sR (nwA M3 q4 20 301 11) 165 Y (some q4)) Y [(165, q4), (164, q3), (163, q2), (162, q1)] := hI3.add (f := 165) hq4 (by simp)
  have J4 : ∀ f, fI (sR (nwA M3 q4 20 301 11) 165 Y (some q4)) f Y = (fun _ => 0 : Nat → Int32) f := J3
  have F4 : Fr (fun b => b = Y) M (sR (nwA M3 q4 20 301 11) 165 Y (some q4)) := (F3.trans ((nwA_fr hq4).mono (Z' := fun b => b = Y) fun _ _ z => z.elim) (fun _ _ z => z)).trans (sR_fr _ _ _ _) (fun _ _ z => z)
  generalize sR (nwA M3 q4 20 301 11) 165 Y (some q4) = M4 at hI4 J4 F4 ⊢
  refine r_aload_n hC 0 d_Minit_40 rfl rfl ?_
  refine r_sipush hC 301 d_Minit_41 (by decide) ?_
  refine r_newaI hC 301 11 ac_int rfl (by omega) d_Minit_44 (Nat.le_of_ble_eq_true rfl) (Nat.le_of_ble_eq_true rfl) (fun q5 hq5 _ => ?_)
  have e5 : kd (nwA M4 q5 20 301 11) Y = 6 := (nwA_fr hq5).k hI4.1.1
  refine r_putFR hC 5 6 166 fl_M22 rfl rfl rfl (by exact e5) d_Minit_46 (v := (some q5)) rfl rfl ?_
  have hI5 : MI (sR (nwA M4 q5 20 301 11) 166 Y (some q5)) Y [(166, q5), (165, q4), (164, q3), (163, q2), (162, q1)] := hI4.add (f := 166) hq5 (by simp)
  have J5 : ∀ f, fI (sR (nwA M4 q5 20 301 11) 166 Y (some q5)) f Y = (fun _ => 0 : Nat → Int32) f := J4
  have F5 : Fr (fun b => b = Y) M (sR (nwA M4 q5 20 301 11) 166 Y (some q5)) := (F4.trans ((nwA_fr hq5).mono (Z' := fun b => b = Y) fun _ _ z => z.elim) (fun _ _ z => z)).trans (sR_fr _ _ _ _) (fun _ _ z => z)
  generalize sR (nwA M4 q5 20 301 11) 166 Y (some q5) = M5 at hI5 J5 F5 ⊢
  refine r_aload_n hC 0 d_Minit_49 rfl rfl ?_
  refine r_sipush hC 301 d_Minit_50 (by decide) ?_
  refine r_newaI hC 301 11 ac_int rfl (by omega) d_Minit_53 (Nat.le_of_ble_eq_true rfl) (Nat.le_of_ble_eq_true rfl) (fun q6 hq6 _ => ?_)
  have e6 : kd (nwA M5 q6 20 301 11) Y = 6 := (nwA_fr hq6).k hI5.1.1
  refine r_putFR hC 5 7 167 fl_M25 rfl rfl rfl (by exact e6) d_Minit_55 (v := (some q6)) rfl rfl ?_
  have hI6 : MI (sR (nwA M5 q6 20 301 11) 167 Y (some q6)) Y [(167, q6), (166, q5), (165, q4), (164, q3), (163, q2), (162, q1)] := hI5.add (f := 167) hq6 (by simp)
  have J6 : ∀ f, fI (sR (nwA M5 q6 20 301 11) 167 Y (some q6)) f Y = (fun _ => 0 : Nat → Int32) f := J5
  have F6 : Fr (fun b => b = Y) M (sR (nwA M5 q6 20 301 11) 167 Y (some q6)) := (F5.trans ((nwA_fr hq6).mono (Z' := fun b => b = Y) fun _ _ z => z.elim) (fun _ _ z => z)).trans (sR_fr _ _ _ _) (fun _ _ z => z)
  generalize sR (nwA M5 q6 20 301 11) 167 Y (some q6) = M6 at hI6 J6 F6 ⊢
  refine r_aload_n hC 0 d_Minit_58 rfl rfl ?_
  refine r_iconst hC 1 d_Minit_59 (by decide) ?_
  refine r_putI hC 5 8 168 fl_M28 rfl (by exact hI6.1.1) d_Minit_60 rfl rfl rfl rfl ?_
  have hI7 : MI (sI M6 168 Y 1) Y [(167, q6), (166, q5), (165, q4), (164, q3), (163, q2), (162, q1)] := hI6.si 168 1
  have J7 : ∀ f, fI (sI M6 168 Y 1) f Y = (va_up (fun _ => 0 : Nat → Int32) 168 1) f := fun f => by
    show up2 (fI M6) 168 Y 1 f Y = _
    by_cases e : f = 168
    · rw [e, up2_self, va_up_self]
    · rw [up2_ne _ _ (fun z => e z.1), va_up_ne _ _ e]; exact J6 f
  have F7 : Fr (fun b => b = Y) M (sI M6 168 Y 1) := F6.trans (sI_fr _ _ _ _) (fun _ _ z => z)
  generalize sI M6 168 Y 1 = M7 at hI7 J7 F7 ⊢
  refine r_aload_n hC 0 d_Minit_63 rfl rfl ?_
  refine r_sipush hC 1204 d_Minit_64 (by decide) ?_
  refine r_newaZ hC 1204 11 ac_boolean rfl (by omega) d_Minit_67 (Nat.le_of_ble_eq_true rfl) (Nat.le_of_ble_eq_true rfl) (fun q8 hq8 _ => ?_)
  have e8 : kd (nwA M7 q8 21 1204 11) Y = 6 := (nwA_fr hq8).k hI7.1.1
  refine r_putFR hC 5 9 169 fl_M32 rfl rfl rfl (by exact e8) d_Minit_69 (v := (some q8)) rfl rfl ?_
  have hI8 : MI (sR (nwA M7 q8 21 1204 11) 169 Y (some q8)) Y [(169, q8), (167, q6), (166, q5), (165, q4), (164, q3), (163, q2), (162, q1)] := hI7.add (f := 169) hq8 (by simp)
  have J8 : ∀ f, fI (sR (nwA M7 q8 21 1204 11) 169 Y (some q8)) f Y = (va_up (fun _ => 0 : Nat → Int32) 168 1) f := J7
  have F8 : Fr (fun b => b = Y) M (sR (nwA M7 q8 21 1204 11) 169 Y (some q8)) := (F7.trans ((nwA_fr hq8).mono (Z' := fun b => b = Y) fun _ _ z => z.elim) (fun _ _ z => z)).trans (sR_fr _ _ _ _) (fun _ _ z => z)
  generalize sR (nwA M7 q8 21 1204 11) 169 Y (some q8) = M8 at hI8 J8 F8 ⊢
  refine r_aload_n hC 0 d_Minit_72 rfl rfl ?_
  refine r_iconst hC 4 d_Minit_73 (by decide) ?_
  refine r_newaI hC 4 11 ac_int rfl (by omega) d_Minit_74 (Nat.le_of_ble_eq_true rfl) (Nat.le_of_ble_eq_true rfl) (fun q9 hq9 _ => ?_)
  have e9 : kd (nwA M8 q9 20 4 11) Y = 6 := (nwA_fr hq9).k hI8.1.1
  refine r_putFR hC 5 10 170 fl_M36 rfl rfl rfl (by exact e9) d_Minit_76 (v := (some q9)) rfl rfl ?_
  have hI9 : MI (sR (nwA M8 q9 20 4 11) 170 Y (some q9)) Y [(170, q9), (169, q8), (167, q6), (166, q5), (165, q4), (164, q3), (163, q2), (162, q1)] := hI8.add (f := 170) hq9 (by simp)
  have J9 : ∀ f, fI (sR (nwA M8 q9 20 4 11) 170 Y (some q9)) f Y = (va_up (fun _ => 0 : Nat → Int32) 168 1) f := J8
  have F9 : Fr (fun b => b = Y) M (sR (nwA M8 q9 20 4 11) 170 Y (some q9)) := (F8.trans ((nwA_fr hq9).mono (Z' := fun b => b = Y) fun _ _ z => z.elim) (fun _ _ z => z)).trans (sR_fr _ _ _ _) (fun _ _ z => z)
  generalize sR (nwA M8 q9 20 4 11) 170 Y (some q9) = M9 at hI9 J9 F9 ⊢
  refine r_aload_n hC 0 d_Minit_79 rfl rfl ?_
  refine r_iconst hC 4 d_Minit_80 (by decide) ?_
  refine r_newaI hC 4 11 ac_int rfl (by omega) d_Minit_81 (Nat.le_of_ble_eq_true rfl) (Nat.le_of_ble_eq_true rfl) (fun q10 hq10 _ => ?_)
  have e10 : kd (nwA M9 q10 20 4 11) Y = 6 := (nwA_fr hq10).k hI9.1.1
  refine r_putFR hC 5 11 171 fl_M39 rfl rfl rfl (by exact e10) d_Minit_83 (v := (some q10)) rfl rfl ?_
  have hI10 : MI (sR (nwA M9 q10 20 4 11) 171 Y (some q10)) Y [(171, q10), (170, q9), (169, q8), (167, q6), (166, q5), (165, q4), (164, q3), (163, q2), (162, q1)] := hI9.add (f := 171) hq10 (by simp)
  have J10 : ∀ f, fI (sR (nwA M9 q10 20 4 11) 171 Y (some q10)) f Y = (va_up (fun _ => 0 : Nat → Int32) 168 1) f := J9
  have F10 : Fr (fun b => b = Y) M (sR (nwA M9 q10 20 4 11) 171 Y (some q10)) := (F9.trans ((nwA_fr hq10).mono (Z' := fun b => b = Y) fun _ _ z => z.elim) (fun _ _ z => z)).trans (sR_fr _ _ _ _) (fun _ _ z => z)
  generalize sR (nwA M9 q10 20 4 11) 171 Y (some q10) = M10 at hI10 J10 F10 ⊢
  refine r_aload_n hC 0 d_Minit_86 rfl rfl ?_
  refine r_iconst hC (-1) d_Minit_87 (by decide) ?_
  refine r_putI hC 5 12 172 fl_M42 rfl (by exact hI10.1.1) d_Minit_88 rfl rfl rfl rfl ?_
  have hI11 : MI (sI M10 172 Y (-1)) Y [(171, q10), (170, q9), (169, q8), (167, q6), (166, q5), (165, q4), (164, q3), (163, q2), (162, q1)] := hI10.si 172 (-1)
  have J11 : ∀ f, fI (sI M10 172 Y (-1)) f Y = (va_up (va_up (fun _ => 0 : Nat → Int32) 168 1) 172 (-1)) f := fun f => by
    show up2 (fI M10) 172 Y (-1) f Y = _
    by_cases e : f = 172
    · rw [e, up2_self, va_up_self]
    · rw [up2_ne _ _ (fun z => e z.1), va_up_ne _ _ e]; exact J10 f
  have F11 : Fr (fun b => b = Y) M (sI M10 172 Y (-1)) := F10.trans (sI_fr _ _ _ _) (fun _ _ z => z)
  generalize sI M10 172 Y (-1) = M11 at hI11 J11 F11 ⊢
  refine r_aload_n hC 0 d_Minit_91 rfl rfl ?_
  refine r_bipush hC 40 d_Minit_92 (by decide) ?_
  refine r_newaZ hC 40 11 ac_boolean rfl (by omega) d_Minit_94 (Nat.le_of_ble_eq_true rfl) (Nat.le_of_ble_eq_true rfl) (fun q12 hq12 _ => ?_)
  have e12 : kd (nwA M11 q12 21 40 11) Y = 6 := (nwA_fr hq12).k hI11.1.1
  refine r_putFR hC 5 13 173 fl_M45 rfl rfl rfl (by exact e12) d_Minit_96 (v := (some q12)) rfl rfl ?_
  have hI12 : MI (sR (nwA M11 q12 21 40 11) 173 Y (some q12)) Y [(173, q12), (171, q10), (170, q9), (169, q8), (167, q6), (166, q5), (165, q4), (164, q3), (163, q2), (162, q1)] := hI11.add (f := 173) hq12 (by simp)
  have J12 : ∀ f, fI (sR (nwA M11 q12 21 40 11) 173 Y (some q12)) f Y = (va_up (va_up (fun _ => 0 : Nat → Int32) 168 1) 172 (-1)) f := J11
  have F12 : Fr (fun b => b = Y) M (sR (nwA M11 q12 21 40 11) 173 Y (some q12)) := (F11.trans ((nwA_fr hq12).mono (Z' := fun b => b = Y) fun _ _ z => z.elim) (fun _ _ z => z)).trans (sR_fr _ _ _ _) (fun _ _ z => z)
  generalize sR (nwA M11 q12 21 40 11) 173 Y (some q12) = M12 at hI12 J12 F12 ⊢
  refine r_aload_n hC 0 d_Minit_99 rfl rfl ?_
  refine r_bipush hC 40 d_Minit_100 (by decide) ?_
  refine r_newaI hC 40 11 ac_int rfl (by omega) d_Minit_102 (Nat.le_of_ble_eq_true rfl) (Nat.le_of_ble_eq_true rfl) (fun q13 hq13 _ => ?_)
  have e13 : kd (nwA M12 q13 20 40 11) Y = 6 := (nwA_fr hq13).k hI12.1.1
  refine r_putFR hC 5 14 174 fl_M48 rfl rfl rfl (by exact e13) d_Minit_104 (v := (some q13)) rfl rfl ?_
  have hI13 : MI (sR (nwA M12 q13 20 40 11) 174 Y (some q13)) Y [(174, q13), (173, q12), (171, q10), (170, q9), (169, q8), (167, q6), (166, q5), (165, q4), (164, q3), (163, q2), (162, q1)] := hI12.add (f := 174) hq13 (by simp)
  have J13 : ∀ f, fI (sR (nwA M12 q13 20 40 11) 174 Y (some q13)) f Y = (va_up (va_up (fun _ => 0 : Nat → Int32) 168 1) 172 (-1)) f := J12
  have F13 : Fr (fun b => b = Y) M (sR (nwA M12 q13 20 40 11) 174 Y (some q13)) := (F12.trans ((nwA_fr hq13).mono (Z' := fun b => b = Y) fun _ _ z => z.elim) (fun _ _ z => z)).trans (sR_fr _ _ _ _) (fun _ _ z => z)
  generalize sR (nwA M12 q13 20 40 11) 174 Y (some q13) = M13 at hI13 J13 F13 ⊢
  refine r_aload_n hC 0 d_Minit_107 rfl rfl ?_
  refine r_bipush hC 40 d_Minit_108 (by decide) ?_
  refine r_newaI hC 40 11 ac_int rfl (by omega) d_Minit_110 (Nat.le_of_ble_eq_true rfl) (Nat.le_of_ble_eq_true rfl) (fun q14 hq14 _ => ?_)
  have e14 : kd (nwA M13 q14 20 40 11) Y = 6 := (nwA_fr hq14).k hI13.1.1
  refine r_putFR hC 5 15 175 fl_M51 rfl rfl rfl (by exact e14) d_Minit_112 (v := (some q14)) rfl rfl ?_
  have hI14 : MI (sR (nwA M13 q14 20 40 11) 175 Y (some q14)) Y [(175, q14), (174, q13), (173, q12), (171, q10), (170, q9), (169, q8), (167, q6), (166, q5), (165, q4), (164, q3), (163, q2), (162, q1)] := hI13.add (f := 175) hq14 (by simp)
  have J14 : ∀ f, fI (sR (nwA M13 q14 20 40 11) 175 Y (some q14)) f Y = (va_up (va_up (fun _ => 0 : Nat → Int32) 168 1) 172 (-1)) f := J13
  have F14 : Fr (fun b => b = Y) M (sR (nwA M13 q14 20 40 11) 175 Y (some q14)) := (F13.trans ((nwA_fr hq14).mono (Z' := fun b => b = Y) fun _ _ z => z.elim) (fun _ _ z => z)).trans (sR_fr _ _ _ _) (fun _ _ z => z)
  generalize sR (nwA M13 q14 20 40 11) 175 Y (some q14) = M14 at hI14 J14 F14 ⊢
  refine r_aload_n hC 0 d_Minit_115 rfl rfl ?_
  refine r_bipush hC 41 d_Minit_116 (by decide) ?_
  refine r_newaI hC 41 11 ac_int rfl (by omega) d_Minit_118 (Nat.le_of_ble_eq_true rfl) (Nat.le_of_ble_eq_true rfl) (fun q15 hq15 _ => ?_)
  have e15 : kd (nwA M14 q15 20 41 11) Y = 6 := (nwA_fr hq15).k hI14.1.1
  refine r_putFR hC 5 16 176 fl_M54 rfl rfl rfl (by exact e15) d_Minit_120 (v := (some q15)) rfl rfl ?_
  have hI15 : MI (sR (nwA M14 q15 20 41 11) 176 Y (some q15)) Y [(176, q15), (175, q14), (174, q13), (173, q12), (171, q10), (170, q9), (169, q8), (167, q6), (166, q5), (165, q4), (164, q3), (163, q2), (162, q1)] := hI14.add (f := 176) hq15 (by simp)
  have J15 : ∀ f, fI (sR (nwA M14 q15 20 41 11) 176 Y (some q15)) f Y = (va_up (va_up (fun _ => 0 : Nat → Int32) 168 1) 172 (-1)) f := J14
  have F15 : Fr (fun b => b = Y) M (sR (nwA M14 q15 20 41 11) 176 Y (some q15)) := (F14.trans ((nwA_fr hq15).mono (Z' := fun b => b = Y) fun _ _ z => z.elim) (fun _ _ z => z)).trans (sR_fr _ _ _ _) (fun _ _ z => z)
  generalize sR (nwA M14 q15 20 41 11) 176 Y (some q15) = M15 at hI15 J15 F15 ⊢
  refine r_aload_n hC 0 d_Minit_123 rfl rfl ?_
  refine r_sipush hC 1640 d_Minit_124 (by decide) ?_
  refine r_newaI hC 1640 11 ac_int rfl (by omega) d_Minit_127 (Nat.le_of_ble_eq_true rfl) (Nat.le_of_ble_eq_true rfl) (fun q16 hq16 _ => ?_)
  have e16 : kd (nwA M15 q16 20 1640 11) Y = 6 := (nwA_fr hq16).k hI15.1.1
  refine r_putFR hC 5 17 177 fl_M57 rfl rfl rfl (by exact e16) d_Minit_129 (v := (some q16)) rfl rfl ?_
  have hI16 : MI (sR (nwA M15 q16 20 1640 11) 177 Y (some q16)) Y [(177, q16), (176, q15), (175, q14), (174, q13), (173, q12), (171, q10), (170, q9), (169, q8), (167, q6), (166, q5), (165, q4), (164, q3), (163, q2), (162, q1)] := hI15.add (f := 177) hq16 (by simp)
  have J16 : ∀ f, fI (sR (nwA M15 q16 20 1640 11) 177 Y (some q16)) f Y = (va_up (va_up (fun _ => 0 : Nat → Int32) 168 1) 172 (-1)) f := J15
  have F16 : Fr (fun b => b = Y) M (sR (nwA M15 q16 20 1640 11) 177 Y (some q16)) := (F15.trans ((nwA_fr hq16).mono (Z' := fun b => b = Y) fun _ _ z => z.elim) (fun _ _ z => z)).trans (sR_fr _ _ _ _) (fun _ _ z => z)
  generalize sR (nwA M15 q16 20 1640 11) 177 Y (some q16) = M16 at hI16 J16 F16 ⊢
  refine r_aload_n hC 0 d_Minit_132 rfl rfl ?_
  refine r_sipush hC 301 d_Minit_133 (by decide) ?_
  refine r_newaI hC 301 11 ac_int rfl (by omega) d_Minit_136 (Nat.le_of_ble_eq_true rfl) (Nat.le_of_ble_eq_true rfl) (fun q17 hq17 _ => ?_)
  have e17 : kd (nwA M16 q17 20 301 11) Y = 6 := (nwA_fr hq17).k hI16.1.1
  refine r_putFR hC 5 18 178 fl_M60 rfl rfl rfl (by exact e17) d_Minit_138 (v := (some q17)) rfl rfl ?_
  have hI17 : MI (sR (nwA M16 q17 20 301 11) 178 Y (some q17)) Y [(178, q17), (177, q16), (176, q15), (175, q14), (174, q13), (173, q12), (171, q10), (170, q9), (169, q8), (167, q6), (166, q5), (165, q4), (164, q3), (163, q2), (162, q1)] := hI16.add (f := 178) hq17 (by simp)
  have J17 : ∀ f, fI (sR (nwA M16 q17 20 301 11) 178 Y (some q17)) f Y = (va_up (va_up (fun _ => 0 : Nat → Int32) 168 1) 172 (-1)) f := J16
  have F17 : Fr (fun b => b = Y) M (sR (nwA M16 q17 20 301 11) 178 Y (some q17)) := (F16.trans ((nwA_fr hq17).mono (Z' := fun b => b = Y) fun _ _ z => z.elim) (fun _ _ z => z)).trans (sR_fr _ _ _ _) (fun _ _ z => z)
  generalize sR (nwA M16 q17 20 301 11) 178 Y (some q17) = M17 at hI17 J17 F17 ⊢
  refine r_aload_n hC 0 d_Minit_141 rfl rfl ?_
  refine r_sipush hC 301 d_Minit_142 (by decide) ?_
  refine r_newaI hC 301 11 ac_int rfl (by omega) d_Minit_145 (Nat.le_of_ble_eq_true rfl) (Nat.le_of_ble_eq_true rfl) (fun q18 hq18 _ => ?_)
  have e18 : kd (nwA M17 q18 20 301 11) Y = 6 := (nwA_fr hq18).k hI17.1.1
  refine r_putFR hC 5 20 180 fl_M63 rfl rfl rfl (by exact e18) d_Minit_147 (v := (some q18)) rfl rfl ?_
  have hI18 : MI (sR (nwA M17 q18 20 301 11) 180 Y (some q18)) Y [(180, q18), (178, q17), (177, q16), (176, q15), (175, q14), (174, q13), (173, q12), (171, q10), (170, q9), (169, q8), (167, q6), (166, q5), (165, q4), (164, q3), (163, q2), (162, q1)] := hI17.add (f := 180) hq18 (by simp)
  have J18 : ∀ f, fI (sR (nwA M17 q18 20 301 11) 180 Y (some q18)) f Y = (va_up (va_up (fun _ => 0 : Nat → Int32) 168 1) 172 (-1)) f := J17
  have F18 : Fr (fun b => b = Y) M (sR (nwA M17 q18 20 301 11) 180 Y (some q18)) := (F17.trans ((nwA_fr hq18).mono (Z' := fun b => b = Y) fun _ _ z => z.elim) (fun _ _ z => z)).trans (sR_fr _ _ _ _) (fun _ _ z => z)
  generalize sR (nwA M17 q18 20 301 11) 180 Y (some q18) = M18 at hI18 J18 F18 ⊢
  refine r_aload_n hC 0 d_Minit_150 rfl rfl ?_
  refine r_sipush hC 301 d_Minit_151 (by decide) ?_
  refine r_newaI hC 301 11 ac_int rfl (by omega) d_Minit_154 (Nat.le_of_ble_eq_true rfl) (Nat.le_of_ble_eq_true rfl) (fun q19 hq19 _ => ?_)
  have e19 : kd (nwA M18 q19 20 301 11) Y = 6 := (nwA_fr hq19).k hI18.1.1
  refine r_putFR hC 5 22 182 fl_M66 rfl rfl rfl (by exact e19) d_Minit_156 (v := (some q19)) rfl rfl ?_
  have hI19 : MI (sR (nwA M18 q19 20 301 11) 182 Y (some q19)) Y [(182, q19), (180, q18), (178, q17), (177, q16), (176, q15), (175, q14), (174, q13), (173, q12), (171, q10), (170, q9), (169, q8), (167, q6), (166, q5), (165, q4), (164, q3), (163, q2), (162, q1)] := hI18.add (f := 182) hq19 (by simp)
  have J19 : ∀ f, fI (sR (nwA M18 q19 20 301 11) 182 Y (some q19)) f Y = (va_up (va_up (fun _ => 0 : Nat → Int32) 168 1) 172 (-1)) f := J18
  have F19 : Fr (fun b => b = Y) M (sR (nwA M18 q19 20 301 11) 182 Y (some q19)) := (F18.trans ((nwA_fr hq19).mono (Z' := fun b => b = Y) fun _ _ z => z.elim) (fun _ _ z => z)).trans (sR_fr _ _ _ _) (fun _ _ z => z)
  generalize sR (nwA M18 q19 20 301 11) 182 Y (some q19) = M19 at hI19 J19 F19 ⊢
  refine r_aload_n hC 0 d_Minit_159 rfl rfl ?_
  refine r_bipush hC 41 d_Minit_160 (by decide) ?_
  refine r_newaI hC 41 11 ac_int rfl (by omega) d_Minit_162 (Nat.le_of_ble_eq_true rfl) (Nat.le_of_ble_eq_true rfl) (fun q20 hq20 _ => ?_)
  have e20 : kd (nwA M19 q20 20 41 11) Y = 6 := (nwA_fr hq20).k hI19.1.1
  refine r_putFR hC 5 23 183 fl_M69 rfl rfl rfl (by exact e20) d_Minit_164 (v := (some q20)) rfl rfl ?_
  have hI20 : MI (sR (nwA M19 q20 20 41 11) 183 Y (some q20)) Y [(183, q20), (182, q19), (180, q18), (178, q17), (177, q16), (176, q15), (175, q14), (174, q13), (173, q12), (171, q10), (170, q9), (169, q8), (167, q6), (166, q5), (165, q4), (164, q3), (163, q2), (162, q1)] := hI19.add (f := 183) hq20 (by simp)
  have J20 : ∀ f, fI (sR (nwA M19 q20 20 41 11) 183 Y (some q20)) f Y = (va_up (va_up (fun _ => 0 : Nat → Int32) 168 1) 172 (-1)) f := J19
  have F20 : Fr (fun b => b = Y) M (sR (nwA M19 q20 20 41 11) 183 Y (some q20)) := (F19.trans ((nwA_fr hq20).mono (Z' := fun b => b = Y) fun _ _ z => z.elim) (fun _ _ z => z)).trans (sR_fr _ _ _ _) (fun _ _ z => z)
  generalize sR (nwA M19 q20 20 41 11) 183 Y (some q20) = M20 at hI20 J20 F20 ⊢
  refine r_aload_n hC 0 d_Minit_167 rfl rfl ?_
  refine r_sipush hC 1640 d_Minit_168 (by decide) ?_
  refine r_newaI hC 1640 11 ac_int rfl (by omega) d_Minit_171 (Nat.le_of_ble_eq_true rfl) (Nat.le_of_ble_eq_true rfl) (fun q21 hq21 _ => ?_)
  have e21 : kd (nwA M20 q21 20 1640 11) Y = 6 := (nwA_fr hq21).k hI20.1.1
  refine r_putFR hC 5 24 184 fl_M72 rfl rfl rfl (by exact e21) d_Minit_173 (v := (some q21)) rfl rfl ?_
  have hI21 : MI (sR (nwA M20 q21 20 1640 11) 184 Y (some q21)) Y [(184, q21), (183, q20), (182, q19), (180, q18), (178, q17), (177, q16), (176, q15), (175, q14), (174, q13), (173, q12), (171, q10), (170, q9), (169, q8), (167, q6), (166, q5), (165, q4), (164, q3), (163, q2), (162, q1)] := hI20.add (f := 184) hq21 (by simp)
  have J21 : ∀ f, fI (sR (nwA M20 q21 20 1640 11) 184 Y (some q21)) f Y = (va_up (va_up (fun _ => 0 : Nat → Int32) 168 1) 172 (-1)) f := J20
  have F21 : Fr (fun b => b = Y) M (sR (nwA M20 q21 20 1640 11) 184 Y (some q21)) := (F20.trans ((nwA_fr hq21).mono (Z' := fun b => b = Y) fun _ _ z => z.elim) (fun _ _ z => z)).trans (sR_fr _ _ _ _) (fun _ _ z => z)
  generalize sR (nwA M20 q21 20 1640 11) 184 Y (some q21) = M21 at hI21 J21 F21 ⊢
  refine r_aload_n hC 0 d_Minit_176 rfl rfl ?_
  refine r_bipush hC 40 d_Minit_177 (by decide) ?_
  refine r_newaZ hC 40 11 ac_boolean rfl (by omega) d_Minit_179 (Nat.le_of_ble_eq_true rfl) (Nat.le_of_ble_eq_true rfl) (fun q22 hq22 _ => ?_)
  have e22 : kd (nwA M21 q22 21 40 11) Y = 6 := (nwA_fr hq22).k hI21.1.1
  refine r_putFR hC 5 25 185 fl_M75 rfl rfl rfl (by exact e22) d_Minit_181 (v := (some q22)) rfl rfl ?_
  have hI22 : MI (sR (nwA M21 q22 21 40 11) 185 Y (some q22)) Y [(185, q22), (184, q21), (183, q20), (182, q19), (180, q18), (178, q17), (177, q16), (176, q15), (175, q14), (174, q13), (173, q12), (171, q10), (170, q9), (169, q8), (167, q6), (166, q5), (165, q4), (164, q3), (163, q2), (162, q1)] := hI21.add (f := 185) hq22 (by simp)
  have J22 : ∀ f, fI (sR (nwA M21 q22 21 40 11) 185 Y (some q22)) f Y = (va_up (va_up (fun _ => 0 : Nat → Int32) 168 1) 172 (-1)) f := J21
  have F22 : Fr (fun b => b = Y) M (sR (nwA M21 q22 21 40 11) 185 Y (some q22)) := (F21.trans ((nwA_fr hq22).mono (Z' := fun b => b = Y) fun _ _ z => z.elim) (fun _ _ z => z)).trans (sR_fr _ _ _ _) (fun _ _ z => z)
  generalize sR (nwA M21 q22 21 40 11) 185 Y (some q22) = M22 at hI22 J22 F22 ⊢
  have har : ∀ f, f ∈ arF → (f, (([(185, q22), (184, q21), (183, q20), (182, q19), (180, q18), (178, q17), (177, q16), (176, q15), (175, q14), (174, q13), (173, q12), (171, q10), (170, q9), (169, q8), (167, q6), (166, q5), (165, q4), (164, q3), (163, q2), (162, q1)].find? (fun q => q.1 == f)).map (fun q => q.2)).getD 0) ∈ [(185, q22), (184, q21), (183, q20), (182, q19), (180, q18), (178, q17), (177, q16), (176, q15), (175, q14), (174, q13), (173, q12), (171, q10), (170, q9), (169, q8), (167, q6), (166, q5), (165, q4), (164, q3), (163, q2), (162, q1)] := by
    intro f hf
    simp only [arF, List.mem_cons, List.not_mem_nil, or_false] at hf
    rcases hf with rfl | rfl | rfl | rfl | rfl | rfl | rfl | rfl | rfl | rfl | rfl | rfl | rfl | rfl | rfl | rfl | rfl | rfl | rfl | rfl <;> simp
  obtain ⟨i1, i2, i3⟩ := hI22
  have hMV : MV M22 Y (fun f => (([(185, q22), (184, q21), (183, q20), (182, q19), (180, q18), (178, q17), (177, q16), (176, q15), (175, q14), (174, q13), (173, q12), (171, q10), (170, q9), (169, q8), (167, q6), (166, q5), (165, q4), (164, q3), (163, q2), (162, q1)].find? (fun q => q.1 == f)).map (fun q => q.2)).getD 0) (fun _ _ => 0) (va_up (va_up (fun _ => 0 : Nat → Int32) 168 1) 172 (-1)) := ⟨i1, fun f hf => ⟨(i2 _ (har f hf)).1, (i2 _ (har f hf)).2.1, (i2 _ (har f hf)).2.2.1, (i2 _ (har f hf)).2.2.2.1⟩, fun f g hf hg e => congrArg Prod.fst (i3 _ _ (har f hf) (har g hg) e), fun f hf j => (i2 _ (har f hf)).2.2.2.2 j, fun f _ => J22 f⟩
  refine r_vret hC d_Minit_184 (Nat.le_of_ble_eq_true rfl) (Nat.le_of_ble_eq_true rfl) ⟨rfl, ⟨_, _, _, hMV, ⟨⟨?_, by show 0 ≤ 300; omega, (fun i a b => by have b : i ≤ 0 := b; omega), (fun k i _ _ => rfl), (fun i => ⟨by show 0 < 2 ^ 30; omega, by show 0 < 2 ^ 30; omega, by show 0 < 2 ^ 30; omega, (fun _ _ => by show 0 < 2 ^ 30; omega)⟩)⟩, ?_, (fun k _ => ⟨rfl, rfl⟩)⟩, Or.inl ?_⟩, F22⟩
  · rfl
  · rfl
  · rfl
