theorem TV.sl {V : Nat → Nat → Int32} {S : TS} (h : TV V S) {o : Nat} {v : Option Nat} : TV (up2 V 175 o (oO v)) (sl S o v) := by
  refine ⟨fun x hx => ?_, fun x y hx => ?_, fun x hx => ?_, fun y hy => ?_, fun y j x hy hj => ?_⟩
  · rw [up2_ne _ _ (by omega)]; exact h.1 x hx
  · rw [up2_ne _ _ (by omega)]; exact h.2.1 x y hx
  · show _ = oO (va_up (las S) o v x)
    by_cases e : x = o
    · rw [e, up2_self, va_up_self]
    · rw [up2_ne _ _ (fun z => e z.2), va_up_ne _ _ e]; exact h.2.2.1 x hx
  · rw [up2_ne _ _ (by omega)]; exact h.2.2.2.1 y hy
  · rw [up2_ne _ _ (by omega)]; exact h.2.2.2.2 y j x hy hj
theorem TV.sth {V : Nat → Nat → Int32} {S : TS} (h : TV V S) {o : Nat} {b : Bool} : TV (up2 V 173 o (b2i b)) (sth S o b) := by
  refine ⟨fun x hx => ?_, fun x y hx => ?_, fun x hx => ?_, fun y hy => ?_, fun y j x hy hj => ?_⟩
  · show _ = b2i (va_up (th S) o b x)
    by_cases e : x = o
    · rw [e, up2_self, va_up_self]
    · rw [up2_ne _ _ (fun z => e z.2), va_up_ne _ _ e]; exact h.1 x hx
  · rw [up2_ne _ _ (by omega)]; exact h.2.1 x y hx
  · rw [up2_ne _ _ (by omega)]; exact h.2.2.1 x hx
  · rw [up2_ne _ _ (by omega)]; exact h.2.2.2.1 y hy
  · rw [up2_ne _ _ (by omega)]; exact h.2.2.2.2 y j x hy hj
def Kp (V W : Nat → Nat → Int32) : Prop := ∀ f, (f < 173 ∨ 177 < f) → ∀ j, W f j = V f j
/-- taken out and put: what both leave -/
def MP (M : Mem) (Y : Nat) (ar : Nat → Nat) (V : Nat → Nat → Int32) (I : Nat → Int32) (X : TS × Bool) : Int32 → Mem → Prop := fun r N => r = b2i X.2 ∧ ∃ V2, MV N Y ar V2 I ∧ TV V2 X.1 ∧ Kp V V2 ∧ Fr (MZ M) M N
theorem c_MdoRemove (l : Launch) (Θ : Glob) (M : Mem) (Y : Nat) (ar : Nat → Nat) (V : Nat → Nat → Int32) (I : Nat → Int32) (hV : MV M Y ar V I) (S : TS) (hS : TV V S) (hW : WF S) (o : Nat) (ho0 : 0 < o) (ho : o < 40) : Ct l Θ y_MdoRemove 3 0 0 [.ref Y, .int (nI o)] M (pI (MP M Y ar V I (dRem S o))) := by
  have hto := hS.1 o ho
  refine Ct.start (cc := b_MdoRemove) (nL := 2) (ret := (some .boolean)) [some (.ref Y), some (.int (nI o))] mi_MdoRemove.1 (by decide +kernel) (by intro v hv; simp at hv; rcases hv with rfl | rfl <;> rfl) (by simp) rfl (fun p e s m args below meth c hC => ?_)
  have no : ¬ (th S o = true ∧ pr S o ≠ some 40) → Gj p l e (rmo 3 0 0) s m args below meth c Θ M [some (.ref Y), some (.int (nI o))] 0 0 (Fn below args s Θ 0 0 (pI (MP M Y ar V I (dRem S o)))) 20 [] := by
    intro hn
    have hd : dRem S o = (S, false) := if_neg hn
    rw [hd]
    refine r_iconst hC 0 d_MdoRemove_20 (by decide) ?_
    exact r_zret hC d_MdoRemove_21 (Or.inl rfl) (Nat.le_refl _) (Nat.le_refl _) ⟨_, rfl, rfl, V, hV, hS, fun _ _ _ => rfl, Fr.rf⟩
  refine r_aload_n hC 0 d_MdoRemove_0 rfl rfl ?_
  refine r_getS hC 5 13 173 fl_M45 (by exact hV.k) d_MdoRemove_1 rfl rfl (by exact (hV.rf 173 (by decide))) ?_
  refine r_iload_n hC 1 d_MdoRemove_4 rfl rfl ?_
  refine r_zald hC (o) (hV.ak 173 (by decide)) rfl (by rw [hV.al 173 (by decide)]; exact (show o < mLn 173 from (by show o < 40; omega))) (by rw [hV.al 173 (by decide)]; decide) d_MdoRemove_5 (hV.el 173 (by decide) (o)) ?_
  rw [hto]
  refine r_if_eq hC 20 d_MdoRemove_6 (by decide) (fun z => no (fun q => by rw [q.1] at z; exact i10 z)) (fun z => ?_)
  have ht := b2i_ne z
  obtain ⟨q, hq⟩ := hW.par ht (by omega)
  have hpv := hS.2.1 o q hq
  have hq40 := (hW.ple hq).1
  refine r_aload_n hC 0 d_MdoRemove_9 rfl rfl ?_
  refine r_getS hC 5 14 174 fl_M48 (by exact hV.k) d_MdoRemove_10 rfl rfl (by exact (hV.rf 174 (by decide))) ?_
  refine r_iload_n hC 1 d_MdoRemove_13 rfl rfl ?_
  refine r_iald hC (o) (hV.ak 174 (by decide)) rfl (by rw [hV.al 174 (by decide)]; exact (show o < mLn 174 from (by show o < 40; omega))) (by rw [hV.al 174 (by decide)]; decide) d_MdoRemove_14 (hV.el 174 (by decide) (o)) ?_
  refine r_bipush hC 40 d_MdoRemove_15 (by decide) ?_
  rw [hpv]
  refine r_icmp_ne hC 22 d_MdoRemove_17 (by decide) (fun z2 => ?_) (fun z2 => no (fun w => w.2 (by rw [hq, (nI_eq (b := 40) (by omega) (by omega)).mp z2])))
  have hd : dRem S o = (pt (tk S o) o 40 (ki (tk S o) 40).length, true) := if_pos ⟨ht, fun w => z2 (by rw [hq] at w; rw [Option.some.inj w]; rfl)⟩
  rw [hd]
  refine r_aload_n hC 0 d_MdoRemove_22 rfl rfl ?_
  refine r_iload_n hC 1 d_MdoRemove_23 rfl rfl ?_
  refine r_cVv hC [.int (nI o)] rfl (c_MtakeOut l Θ M Y ar V I hV S hS hW o q hq) mi_MtakeOut lk_M110 in_MtakeOut (ci := 5) rfl rfl (by exact hV.k) rfl (Nat.le_of_ble_eq_true rfl) ⟨Nat.le_of_ble_eq_true rfl, Nat.le_of_ble_eq_true rfl⟩ ⟨Nat.le_of_ble_eq_true rfl, Nat.le_of_ble_eq_true rfl⟩ d_MdoRemove_24 (fun M1 h1 => ?_)
  obtain ⟨V1, hV1, hS1, hk1, f1⟩ := h1
  have hkb := hS1.2.2.2.1 40 (by omega)
  refine r_aload_n hC 0 d_MdoRemove_27 rfl rfl ?_
  refine r_iload_n hC 1 d_MdoRemove_28 rfl rfl ?_
  refine r_bipush hC 40 d_MdoRemove_29 (by decide) ?_
  refine r_aload_n hC 0 d_MdoRemove_31 rfl rfl ?_
  refine r_getS hC 5 16 176 fl_M54 (by exact hV1.k) d_MdoRemove_32 rfl rfl (by exact (hV1.rf 176 (by decide))) ?_
  refine r_bipush hC 40 d_MdoRemove_35 (by decide) ?_
  refine r_iald hC (40) (hV1.ak 176 (by decide)) rfl (by rw [hV1.al 176 (by decide)]; exact (show 40 < mLn 176 from (by show 40 < 41; omega))) (by rw [hV1.al 176 (by decide)]; decide) d_MdoRemove_37 (hV1.el 176 (by decide) (40)) ?_
  rw [hkb]
  refine r_cVv hC [.int (nI o), .int (nI 40), .int (nI (ki (tk S o) 40).length)] rfl (c_MputAt l Θ M1 Y ar V1 I hV1 (tk S o) hS1 o 40 _ ho (by omega) (fun y _ => tk_len hW o y) (Nat.le_refl _)) mi_MputAt lk_M118 in_MputAt (ci := 5) rfl rfl (by exact hV1.k) rfl (Nat.le_of_ble_eq_true rfl) ⟨Nat.le_of_ble_eq_true rfl, Nat.le_of_ble_eq_true rfl⟩ ⟨Nat.le_of_ble_eq_true rfl, Nat.le_of_ble_eq_true rfl⟩ d_MdoRemove_38 (fun M2 h2 => ?_)
  obtain ⟨V2, hV2, hS2, hk2, f2⟩ := h2
  refine r_iconst hC 1 d_MdoRemove_41 (by decide) ?_
  exact r_zret hC d_MdoRemove_42 (Or.inr rfl) (Nat.le_refl _) (Nat.le_refl _) ⟨_, rfl, rfl, V2, hV2, hS2, (fun f hf j => by rw [hk2 f (by omega) (by omega) (by omega), hk1 f (by omega) (by omega)]), f1.trans f2 (MZ.old f1)⟩
theorem c_MdoMove (l : Launch) (Θ : Glob) (M : Mem) (Y : Nat) (ar : Nat → Nat) (V : Nat → Nat → Int32) (I : Nat → Int32) (hV : MV M Y ar V I) (S : TS) (hS : TV V S) (hW : WF S) (ob : Nat) (hob : I 168 = nI ob) (hob40 : ob ≤ 40) (hth : ∀ x, th S x = true → x < ob) (r o q : Nat) (b : Option Nat) (hr : r < 301) (ho0 : 0 < o) (ho : o < 40) (hq : q < 40) (hb : ∀ x, b = some x → x < 40) (e1 : V 165 r = nI o) (e2 : V 166 r = nI q) (e3 : V 167 r = oO b) : Ct l Θ y_MdoMove 4 0 0 [.ref Y, .int (nI r)] M (pI (MP M Y ar V I (dMove S o q b))) := by
  have hto := hS.1 o ho
  refine Ct.start (cc := b_MdoMove) (nL := 4) (ret := (some .boolean)) [some (.ref Y), some (.int (nI r)), none, none] mi_MdoMove.1 (by decide +kernel) (by intro v hv; simp at hv; rcases hv with rfl | rfl <;> rfl) (by simp) rfl (fun p e s m args below meth c hC => ?_)
  have no : ¬ mG S o q → Gj p l e (rmo 4 0 0) s m args below meth c Θ M [some (.ref Y), some (.int (nI r)), some (.int (nI o)), none] 0 0 (Fn below args s Θ 0 0 (pI (MP M Y ar V I (dMove S o q b)))) 30 [] := by
    intro hn
    have hd : dMove S o q b = (S, false) := if_neg (by rw [dm_f hn]; decide)
    rw [hd]
    refine r_iconst hC 0 d_MdoMove_30 (by decide) ?_
    exact r_zret hC d_MdoMove_31 (Or.inl rfl) (Nat.le_refl _) (Nat.le_refl _) ⟨_, rfl, rfl, V, hV, hS, fun _ _ _ => rfl, Fr.rf⟩
  refine r_aload_n hC 0 d_MdoMove_0 rfl rfl ?_
  refine r_getS hC 5 5 165 fl_M19 (by exact hV.k) d_MdoMove_1 rfl rfl (by exact (hV.rf 165 (by decide))) ?_
  refine r_iload_n hC 1 d_MdoMove_4 rfl rfl ?_
  refine r_iald hC (r) (hV.ak 165 (by decide)) rfl (by rw [hV.al 165 (by decide)]; exact (show r < mLn 165 from (by show r < 301; omega))) (by rw [hV.al 165 (by decide)]; decide) d_MdoMove_5 (hV.el 165 (by decide) (r)) ?_
  rw [e1]
  refine r_is2 hC d_MdoMove_6 ?_
  refine r_aload_n hC 0 d_MdoMove_7 rfl rfl ?_
  refine r_getS hC 5 13 173 fl_M45 (by exact hV.k) d_MdoMove_8 rfl rfl (by exact (hV.rf 173 (by decide))) ?_
  refine r_iload_n hC 2 d_MdoMove_11 rfl rfl ?_
  refine r_zald hC (o) (hV.ak 173 (by decide)) rfl (by rw [hV.al 173 (by decide)]; exact (show o < mLn 173 from (by show o < 40; omega))) (by rw [hV.al 173 (by decide)]; decide) d_MdoMove_12 (hV.el 173 (by decide) (o)) ?_
  rw [hto]
  refine r_if_eq hC 30 d_MdoMove_13 (by decide) (fun z => no (fun q => by rw [q.1] at z; exact i10 z)) (fun z => ?_)
  have ht := b2i_ne z
  obtain ⟨p0, hp0⟩ := hW.par ht (by omega)
  refine r_aload_n hC 0 d_MdoMove_16 rfl rfl ?_
  refine r_iload_n hC 2 d_MdoMove_17 rfl rfl ?_
  refine r_aload_n hC 0 d_MdoMove_18 rfl rfl ?_
  refine r_getS hC 5 6 166 fl_M22 (by exact hV.k) d_MdoMove_19 rfl rfl (by exact (hV.rf 166 (by decide))) ?_
  refine r_iload_n hC 1 d_MdoMove_22 rfl rfl ?_
  refine r_iald hC (r) (hV.ak 166 (by decide)) rfl (by rw [hV.al 166 (by decide)]; exact (show r < mLn 166 from (by show r < 301; omega))) (by rw [hV.al 166 (by decide)]; decide) d_MdoMove_23 (hV.el 166 (by decide) (r)) ?_
  rw [e2]
  refine r_cVi hC [.int (nI o), .int (nI q)] rfl (c_MmayGo l Θ M Y ar V I hV S hS hW ob hob hob40 hth o q ht (by omega) hq) mi_MmayGo lk_M107 in_MmayGo (ci := 5) rfl rfl (by exact hV.k) rfl (Nat.le_of_ble_eq_true rfl) ⟨Nat.le_of_ble_eq_true rfl, Nat.le_of_ble_eq_true rfl⟩ ⟨Nat.le_of_ble_eq_true rfl, Nat.le_of_ble_eq_true rfl⟩ d_MdoMove_24 (fun r1 M1 h1 => ?_)
  obtain ⟨rfl, rfl⟩ := h1
  refine r_if_ne hC 32 d_MdoMove_27 (by decide) (fun z2 => ?_) (fun z2 => no (fun w => by rw [dm_t w] at z2; exact i10 z2))
  have hm := dm_iff.mp (b2i_ne z2)
  have hd : dMove S o q b = (sl (pt (tk S o) o q (mvK (tk S o) b q)) o (some q), true) := if_pos (dm_t hm)
  rw [hd]
  refine r_aload_n hC 0 d_MdoMove_32 rfl rfl ?_
  refine r_iload_n hC 2 d_MdoMove_33 rfl rfl ?_
  refine r_cVv hC [.int (nI o)] rfl (c_MtakeOut l Θ M1 Y ar V I hV S hS hW o p0 hp0) mi_MtakeOut lk_M110 in_MtakeOut (ci := 5) rfl rfl (by exact hV.k) rfl (Nat.le_of_ble_eq_true rfl) ⟨Nat.le_of_ble_eq_true rfl, Nat.le_of_ble_eq_true rfl⟩ ⟨Nat.le_of_ble_eq_true rfl, Nat.le_of_ble_eq_true rfl⟩ d_MdoMove_34 (fun M2 h2 => ?_)
  obtain ⟨V1, hV1, hS1, hk1, f1⟩ := h2
  have e1' : V1 165 r = nI o := (hk1 165 (by omega) (by omega) r).trans e1
  have e2' : V1 166 r = nI q := (hk1 166 (by omega) (by omega) r).trans e2
  have e3' : V1 167 r = oO b := (hk1 167 (by omega) (by omega) r).trans e3
  have hml := mvK_le (tk S o) b q
  have hkl := tk_len hW o q
  have hmem : ∀ y, y ∈ ki (tk S o) q → y < 40 := fun y hy => (hW.klt ((tk_mem hW y q).mp hy).1).1
  have fin : ∀ v : Int32, v + 1 = nI (mvK (tk S o) b q) → Gj p l e (rmo 4 0 0) s m args below meth c Θ M2 [some (.ref Y), some (.int (nI r)), some (.int (nI o)), none] 0 0 (Fn below args s Θ 0 0 (pI (MP M1 Y ar V I (sl (pt (tk S o) o q (mvK (tk S o) b q)) o (some q), true)))) 67 [.int v] := by
    intro v hv
    refine r_is3 hC d_MdoMove_67 ?_
    refine r_aload_n hC 0 d_MdoMove_68 rfl rfl ?_
    refine r_iload_n hC 2 d_MdoMove_69 rfl rfl ?_
    refine r_aload_n hC 0 d_MdoMove_70 rfl rfl ?_
    refine r_getS hC 5 6 166 fl_M22 (by exact hV1.k) d_MdoMove_71 rfl rfl (by exact (hV1.rf 166 (by decide))) ?_
    refine r_iload_n hC 1 d_MdoMove_74 rfl rfl ?_
    refine r_iald hC (r) (hV1.ak 166 (by decide)) rfl (by rw [hV1.al 166 (by decide)]; exact (show r < mLn 166 from (by show r < 301; omega))) (by rw [hV1.al 166 (by decide)]; decide) d_MdoMove_75 (hV1.el 166 (by decide) (r)) ?_
    rw [e2']
    refine r_iload_n hC 3 d_MdoMove_76 rfl rfl ?_
    refine r_iconst hC 1 d_MdoMove_77 (by decide) ?_
    refine r_iadd hC (nI (mvK (tk S o) b q)) d_MdoMove_78 hv ?_
    refine r_cVv hC [.int (nI o), .int (nI q), .int (nI (mvK (tk S o) b q))] rfl (c_MputAt l Θ M2 Y ar V1 I hV1 (tk S o) hS1 o q _ ho (by omega) (fun y _ => tk_len hW o y) hml) mi_MputAt lk_M118 in_MputAt (ci := 5) rfl rfl (by exact hV1.k) rfl (Nat.le_of_ble_eq_true rfl) ⟨Nat.le_of_ble_eq_true rfl, Nat.le_of_ble_eq_true rfl⟩ ⟨Nat.le_of_ble_eq_true rfl, Nat.le_of_ble_eq_true rfl⟩ d_MdoMove_79 (fun M3 h3 => ?_)
    obtain ⟨V2, hV2, hS2, hk2, f2⟩ := h3
    have e2'' : V2 166 r = nI q := (hk2 166 (by omega) (by omega) (by omega) r).trans e2'
    refine r_aload_n hC 0 d_MdoMove_82 rfl rfl ?_
    refine r_getS hC 5 15 175 fl_M51 (by exact hV2.k) d_MdoMove_83 rfl rfl (by exact (hV2.rf 175 (by decide))) ?_
    refine r_iload_n hC 2 d_MdoMove_86 rfl rfl ?_
    refine r_aload_n hC 0 d_MdoMove_87 rfl rfl ?_
    refine r_getS hC 5 6 166 fl_M22 (by exact hV2.k) d_MdoMove_88 rfl rfl (by exact (hV2.rf 166 (by decide))) ?_
    refine r_iload_n hC 1 d_MdoMove_91 rfl rfl ?_
    refine r_iald hC (r) (hV2.ak 166 (by decide)) rfl (by rw [hV2.al 166 (by decide)]; exact (show r < mLn 166 from (by show r < 301; omega))) (by rw [hV2.al 166 (by decide)]; decide) d_MdoMove_92 (hV2.el 166 (by decide) (r)) ?_
    rw [e2'']
    refine r_iast hC (o) (hV2.ak 175 (by decide)) rfl (by rw [hV2.al 175 (by decide)]; exact (show o < mLn 175 from (by show o < 40; omega))) (by rw [hV2.al 175 (by decide)]; decide) d_MdoMove_93 ?_
    obtain ⟨hV3, f3⟩ := hV2.st 175 (by decide) o (nI q)
    have hS3 : TV (up2 V2 175 o (nI q)) (sl (pt (tk S o) o q (mvK (tk S o) b q)) o (some q)) := hS2.sl (o := o) (v := some q)
    have F2 := f1.trans f2 (MZ.old f1)
    refine r_iconst hC 1 d_MdoMove_94 (by decide) ?_
    exact r_zret hC d_MdoMove_95 (Or.inr rfl) (Nat.le_refl _) (Nat.le_refl _) ⟨_, rfl, rfl, _, hV3, hS3, (fun f hf j => by rw [up2_ne _ _ (by omega), hk2 f (by omega) (by omega) (by omega), hk1 f (by omega) (by omega)]), F2.trans f3 (MZ.old F2)⟩
  refine r_aload_n hC 0 d_MdoMove_37 rfl rfl ?_
  refine r_getS hC 5 7 167 fl_M25 (by exact hV1.k) d_MdoMove_38 rfl rfl (by exact (hV1.rf 167 (by decide))) ?_
  refine r_iload_n hC 1 d_MdoMove_41 rfl rfl ?_
  refine r_iald hC (r) (hV1.ak 167 (by decide)) rfl (by rw [hV1.al 167 (by decide)]; exact (show r < mLn 167 from (by show r < 301; omega))) (by rw [hV1.al 167 (by decide)]; decide) d_MdoMove_42 (hV1.el 167 (by decide) (r)) ?_
  rw [e3']
  refine r_iload_n hC 2 d_MdoMove_43 rfl rfl ?_
  have plc2 : ∀ (x : Int32) (v : Nat), oO b = x → x ≠ nI o → (∀ y ∈ ki (tk S o) q, x = nI y ↔ v = y) → (if v ∈ ki (tk S o) q then nI ((ki (tk S o) q).idxOf v) else (-1 : Int32)) + 1 = nI (mvK (tk S o) b q) → Gj p l e (rmo 4 0 0) s m args below meth c Θ M2 [some (.ref Y), some (.int (nI r)), some (.int (nI o)), none] 0 0 (Fn below args s Θ 0 0 (pI (MP M1 Y ar V I (sl (pt (tk S o) o q (mvK (tk S o) b q)) o (some q), true)))) 51 [] := by
    intro x v hbx hne hxy hval
    refine r_aload_n hC 0 d_MdoMove_51 rfl rfl ?_
    refine r_aload_n hC 0 d_MdoMove_52 rfl rfl ?_
    refine r_getS hC 5 7 167 fl_M25 (by exact hV1.k) d_MdoMove_53 rfl rfl (by exact (hV1.rf 167 (by decide))) ?_
    refine r_iload_n hC 1 d_MdoMove_56 rfl rfl ?_
    refine r_iald hC (r) (hV1.ak 167 (by decide)) rfl (by rw [hV1.al 167 (by decide)]; exact (show r < mLn 167 from (by show r < 301; omega))) (by rw [hV1.al 167 (by decide)]; decide) d_MdoMove_57 (hV1.el 167 (by decide) (r)) ?_
    rw [e3', hbx]
    refine r_aload_n hC 0 d_MdoMove_58 rfl rfl ?_
    refine r_getS hC 5 6 166 fl_M22 (by exact hV1.k) d_MdoMove_59 rfl rfl (by exact (hV1.rf 166 (by decide))) ?_
    refine r_iload_n hC 1 d_MdoMove_62 rfl rfl ?_
    refine r_iald hC (r) (hV1.ak 166 (by decide)) rfl (by rw [hV1.al 166 (by decide)]; exact (show r < mLn 166 from (by show r < 301; omega))) (by rw [hV1.al 166 (by decide)]; decide) d_MdoMove_63 (hV1.el 166 (by decide) (r)) ?_
    rw [e2']
    refine r_cVi hC [.int x, .int (nI q)] rfl (c_MplaceOf l Θ M2 Y ar V1 I hV1 (tk S o) hS1 q v (by omega) x hxy (tk_nd hW o q) hkl) mi_MplaceOf lk_M114 in_MplaceOf (ci := 5) rfl rfl (by exact hV1.k) rfl (Nat.le_of_ble_eq_true rfl) ⟨Nat.le_of_ble_eq_true rfl, Nat.le_of_ble_eq_true rfl⟩ ⟨Nat.le_of_ble_eq_true rfl, Nat.le_of_ble_eq_true rfl⟩ d_MdoMove_64 (fun r3 M3 h3 => ?_)
    obtain ⟨rfl, rfl⟩ := h3
    exact fin _ hval
  cases hb2 : b with
  | none =>
    have hmv : mvK (tk S o) none q = 0 := rfl
    refine r_icmp_ne hC 51 d_MdoMove_44 (by decide) (fun z3 => ?_) (fun z3 => ?_)
    · rw [hb2] at plc2
      refine plc2 (-1) 50 rfl z3 (fun y hy => ⟨fun w => ?_, fun w => ?_⟩) ?_
      · have := hmem y hy
        have h5 : (-1 : Int32).toInt = (nI y).toInt := by rw [w]
        rw [nI_toInt (by omega)] at h5
        have h6 : (-1 : Int32).toInt = -1 := by decide
        omega
      · have := hmem y hy; omega
      · rw [if_neg (fun w => by have := hmem 50 w; omega), hmv]; rfl
    · have h5 : (-1 : Int32).toInt = (nI o).toInt := by rw [show (-1 : Int32) = nI o from z3]
      rw [nI_toInt (by omega)] at h5
      have h6 : (-1 : Int32).toInt = -1 := by decide
      omega
  | some x =>
    have hx40 := hb x hb2
    rw [hb2] at plc2 fin
    by_cases hxo : x = o
    · have hmv : mvK (tk S o) (some x) q = 0 := if_neg (by rw [hxo]; exact tk_out hW o q)
      refine r_icmp_ne hC 51 d_MdoMove_44 (by decide) (fun z3 => absurd (by rw [hxo]; rfl) z3) (fun z3 => ?_)
      refine r_iconst hC (-1) d_MdoMove_47 (by decide) ?_
      refine r_goto hC 67 d_MdoMove_48 (by decide) ?_
      exact fin (-1) (by rw [hmv]; rfl)
    · refine r_icmp_ne hC 51 d_MdoMove_44 (by decide) (fun z3 => ?_) (fun z3 => absurd ((nI_eq (by omega) (by omega)).mp z3) hxo)
      refine plc2 (nI x) x rfl z3 (fun y hy => nI_eq (by omega) (by have := hmem y hy; omega)) ?_
      show _ = nI (if x ∈ ki (tk S o) q then (ki (tk S o) q).idxOf x + 1 else 0)
      split
      · exact nI_1 _
      · rfl
