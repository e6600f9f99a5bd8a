theorem c_Rnumber (l : Launch) (Θ : Glob) (M : Mem) (r : Nat) (hk : kd M r = 3) : Ct l Θ y_Rnumber 1 0 0 [.ref r] M (pI fun v M1 => v = fI M 64 r ∧ M1 = M) := by
  refine Ct.start (cc := b_Rnumber) (nL := 1) (ret := (some .int)) [some (.ref r)] mi_Rnumber.1 (by decide +kernel) (by intro v hv; simp at hv; rcases hv with rfl <;> rfl) (by simp) rfl (fun p e s m args below meth c hC => ?_)
  refine r_aload_n hC 0 d_Rnumber_0 rfl rfl ?_
  refine r_getI hC 2 0 64 fl_R7 (by assumption) d_Rnumber_1 rfl rfl rfl ?_
  exact r_iret hC d_Rnumber_4 (Nat.le_refl _) (Nat.le_refl _) ⟨_, rfl, rfl, rfl⟩
theorem c_Rnode (l : Launch) (Θ : Glob) (M : Mem) (r : Nat) (hk : kd M r = 3) : Ct l Θ y_Rnode 1 0 0 [.ref r] M (pI fun v M1 => v = fI M 65 r ∧ M1 = M) := by
  refine Ct.start (cc := b_Rnode) (nL := 1) (ret := (some .int)) [some (.ref r)] mi_Rnode.1 (by decide +kernel) (by intro v hv; simp at hv; rcases hv with rfl <;> rfl) (by simp) rfl (fun p e s m args below meth c hC => ?_)
  refine r_aload_n hC 0 d_Rnode_0 rfl rfl ?_
  refine r_getI hC 2 1 65 fl_R13 (by assumption) d_Rnode_1 rfl rfl rfl ?_
  exact r_iret hC d_Rnode_4 (Nat.le_refl _) (Nat.le_refl _) ⟨_, rfl, rfl, rfl⟩
theorem c_Rtime (l : Launch) (Θ : Glob) (M : Mem) (r : Nat) (hk : kd M r = 3) : Ct l Θ y_Rtime 1 0 0 [.ref r] M (pI fun v M1 => v = fI M 66 r ∧ M1 = M) := by
  refine Ct.start (cc := b_Rtime) (nL := 1) (ret := (some .int)) [some (.ref r)] mi_Rtime.1 (by decide +kernel) (by intro v hv; simp at hv; rcases hv with rfl <;> rfl) (by simp) rfl (fun p e s m args below meth c hC => ?_)
  refine r_aload_n hC 0 d_Rtime_0 rfl rfl ?_
  refine r_getI hC 2 2 66 fl_R16 (by assumption) d_Rtime_1 rfl rfl rfl ?_
  exact r_iret hC d_Rtime_4 (Nat.le_refl _) (Nat.le_refl _) ⟨_, rfl, rfl, rfl⟩
theorem c_Rsort (l : Launch) (Θ : Glob) (M : Mem) (r : Nat) (hk : kd M r = 3) : Ct l Θ y_Rsort 1 0 0 [.ref r] M (pI fun v M1 => v = fI M 67 r ∧ M1 = M) := by
  refine Ct.start (cc := b_Rsort) (nL := 1) (ret := (some .int)) [some (.ref r)] mi_Rsort.1 (by decide +kernel) (by intro v hv; simp at hv; rcases hv with rfl <;> rfl) (by simp) rfl (fun p e s m args below meth c hC => ?_)
  refine r_aload_n hC 0 d_Rsort_0 rfl rfl ?_
  refine r_getI hC 2 3 67 fl_R19 (by assumption) d_Rsort_1 rfl rfl rfl ?_
  exact r_iret hC d_Rsort_4 (Nat.le_refl _) (Nat.le_refl _) ⟨_, rfl, rfl, rfl⟩
theorem c_Robject (l : Launch) (Θ : Glob) (M : Mem) (r : Nat) (hk : kd M r = 3) : Ct l Θ y_Robject 1 0 0 [.ref r] M (pI fun v M1 => v = fI M 68 r ∧ M1 = M) := by
  refine Ct.start (cc := b_Robject) (nL := 1) (ret := (some .int)) [some (.ref r)] mi_Robject.1 (by decide +kernel) (by intro v hv; simp at hv; rcases hv with rfl <;> rfl) (by simp) rfl (fun p e s m args below meth c hC => ?_)
  refine r_aload_n hC 0 d_Robject_0 rfl rfl ?_
  refine r_getI hC 2 4 68 fl_R22 (by assumption) d_Robject_1 rfl rfl rfl ?_
  exact r_iret hC d_Robject_4 (Nat.le_refl _) (Nat.le_refl _) ⟨_, rfl, rfl, rfl⟩
theorem c_Rto (l : Launch) (Θ : Glob) (M : Mem) (r : Nat) (hk : kd M r = 3) : Ct l Θ y_Rto 1 0 0 [.ref r] M (pI fun v M1 => v = fI M 69 r ∧ M1 = M) := by
  refine Ct.start (cc := b_Rto) (nL := 1) (ret := (some .int)) [some (.ref r)] mi_Rto.1 (by decide +kernel) (by intro v hv; simp at hv; rcases hv with rfl <;> rfl) (by simp) rfl (fun p e s m args below meth c hC => ?_)
  refine r_aload_n hC 0 d_Rto_0 rfl rfl ?_
  refine r_getI hC 2 5 69 fl_R25 (by assumption) d_Rto_1 rfl rfl rfl ?_
  exact r_iret hC d_Rto_4 (Nat.le_refl _) (Nat.le_refl _) ⟨_, rfl, rfl, rfl⟩
theorem c_Rbehind (l : Launch) (Θ : Glob) (M : Mem) (r : Nat) (hk : kd M r = 3) : Ct l Θ y_Rbehind 1 0 0 [.ref r] M (pI fun v M1 => v = fI M 70 r ∧ M1 = M) := by
  refine Ct.start (cc := b_Rbehind) (nL := 1) (ret := (some .int)) [some (.ref r)] mi_Rbehind.1 (by decide +kernel) (by intro v hv; simp at hv; rcases hv with rfl <;> rfl) (by simp) rfl (fun p e s m args below meth c hC => ?_)
  refine r_aload_n hC 0 d_Rbehind_0 rfl rfl ?_
  refine r_getI hC 2 6 70 fl_R28 (by assumption) d_Rbehind_1 rfl rfl rfl ?_
  exact r_iret hC d_Rbehind_4 (Nat.le_refl _) (Nat.le_refl _) ⟨_, rfl, rfl, rfl⟩
/-- a row's object -/
def oO (r : Option Nat) : Int32 := match r with
  | none => -1
  | some k => nI k
def RwO (M : Mem) (r n : Nat) (w : RowT) : Prop := kd M r = 3 ∧ fI M 64 r = nI n ∧ fI M 65 r = nI (rW w) ∧ fI M 66 r = nI (rT w) ∧ fI M 67 r = nI (rS w) ∧ fI M 68 r = nI (rO w) ∧ fI M 69 r = oO (rP w) ∧ fI M 70 r = oO (rB w)
theorem RwO.fr {Z : Nat → Prop} {M N : Mem} {r n : Nat} {w : RowT} (h : RwO M r n w) (hf : Fr Z M N) (hz : ¬ Z r) : RwO N r n w := by
  obtain ⟨h1, h2, h3, h4, h5, h6, h7, h8⟩ := h
  have s := hf.2 r (by omega) hz
  exact ⟨by rw [s.1, h1], by rw [s.2.1, h2], by rw [s.2.1, h3], by rw [s.2.1, h4], by rw [s.2.1, h5], by rw [s.2.1, h6], by rw [s.2.1, h7], by rw [s.2.1, h8]⟩
/-- a step: what it keeps of the tree S before it -/
def Sti (M : Mem) (pa : Nat → Nat) (s : Nat) (a : Bool) (S : TS) (o : Nat) : Prop := kd M s = 4 ∧ fI M 98 s = b2i a ∧ (a = true → fR M 99 s = some (pa o) ∧ fR M 100 s = (pr S o).map pa ∧ fR M 101 s = (las S o).map pa ∧ fI M 102 s = nI (atK S o))
theorem Sti.fr {Z : Nat → Prop} {M N : Mem} {pa : Nat → Nat} {s : Nat} {a : Bool} {S : TS} {o : Nat} (h : Sti M pa s a S o) (hf : Fr Z M N) (hz : ¬ Z s) : Sti N pa s a S o := by
  obtain ⟨h1, h2, h3⟩ := h
  have q := hf.2 s (by omega) hz
  refine ⟨by rw [q.1, h1], by rw [q.2.1, h2], fun ha => ?_⟩
  obtain ⟨e1, e2, e3, e4⟩ := h3 ha
  exact ⟨by rw [q.2.2.1, e1], by rw [q.2.2.1, e2], by rw [q.2.2.1, e3], by rw [q.2.1, e4]⟩
theorem bgM_sti {M : Mem} {s : Nat} {pa : Nat → Nat} {S : TS} {o : Nat} (hs : kd M s = 4) : Sti (bgM M s pa S o) pa s true S o := by
  refine ⟨hs, ?_, fun _ => ⟨?_, ?_, ?_, ?_⟩⟩
  · show up2 (up2 (fI M) 98 s 1) 102 s (nI (atK S o)) 98 s = _
    rw [up2_ne _ _ (by omega), up2_self]; rfl
  · show up2 (up2 (up2 (fR M) 99 s (some (pa o))) 100 s ((pr S o).map pa)) 101 s ((las S o).map pa) 99 s = _
    rw [up2_ne _ _ (by omega), up2_ne _ _ (by omega), up2_self]
  · show up2 (up2 (up2 (fR M) 99 s (some (pa o))) 100 s ((pr S o).map pa)) 101 s ((las S o).map pa) 100 s = _
    rw [up2_ne _ _ (by omega), up2_self]
  · show up2 (up2 (up2 (fR M) 99 s (some (pa o))) 100 s ((pr S o).map pa)) 101 s ((las S o).map pa) 101 s = _
    rw [up2_self]
  · show up2 (up2 (fI M) 98 s 1) 102 s (nI (atK S o)) 102 s = _
    rw [up2_self]
/-- a step's row, and whether it is undone, stay -/
def StK (M N : Mem) (s : Nat) : Prop := fR N 96 s = fR M 96 s ∧ fI N 97 s = fI M 97 s
theorem StK.trans {M N K : Mem} {s : Nat} (h : StK M N s) (h2 : StK N K s) : StK M K s := ⟨h2.1.trans h.1, h2.2.trans h.2⟩
theorem StK.of {Z : Nat → Prop} {M N : Mem} {s : Nat} (hf : Fr Z M N) (hk : kd M s ≠ 0) (hz : ¬ Z s) : StK M N s := by
  have q := hf.2 s hk hz
  exact ⟨q.2.2.1 96, q.2.1 97⟩
theorem bgM_k (M : Mem) (s : Nat) (pa : Nat → Nat) (S : TS) (o : Nat) : StK M (bgM M s pa S o) s := ⟨rfl, rfl⟩
theorem PZ.kind {M : Mem} {pa li : Nat → Nat} {S : TS} {cp : Nat → Nat} (h : PA M pa li S cp) {x : Nat} (hx : PZ M pa li x) : kd M x = 2 ∨ kd M x = 7 ∨ 1000 ≤ kd M x := by
  obtain ⟨o, ho, rfl | rfl | h2⟩ := hx
  · exact Or.inl (h.kp ho)
  · exact Or.inr (Or.inl (h.kl ho))
  · exact Or.inr (Or.inr (by omega))
theorem PZ.not {M : Mem} {pa li : Nat → Nat} {S : TS} {cp : Nat → Nat} (h : PA M pa li S cp) {x k : Nat} (hk : kd M x = k) (h2 : k = 3 ∨ k = 4 ∨ k = 5 ∨ k = 23) : ¬ PZ M pa li x := fun z => by
  have := PZ.kind h z
  omega
/-- o's last place anew -/
theorem PA.slq {M : Mem} {pa li : Nat → Nat} {S : TS} {cp : Nat → Nat} (h : PA M pa li S cp) {o : Nat} (ho : o ≤ 40) (v : Option Nat) : PA (sR M 35 (pa o) (v.map pa)) pa li (sl S o v) cp ∧ Fr (PZ M pa li) M (sR M 35 (pa o) (v.map pa)) := by
  have f := sR_fr M 35 (pa o) (v.map pa)
  refine ⟨⟨fun x hx => ?_, fun x hx => ?_, h.2.2⟩, f.mono fun b _ hb => ⟨o, ho, Or.inl hb⟩⟩
  · obtain ⟨h1, h2, h3, h4, h5, h6⟩ := h.1 x hx
    refine ⟨h1, h2, ?_, ?_, ?_, h6⟩
    · show up2 (fR M) 35 (pa o) (v.map pa) 33 (pa x) = _
      rw [up2_ne _ _ (by omega), h3]
    · show up2 (fR M) 35 (pa o) (v.map pa) 34 (pa x) = _
      rw [up2_ne _ _ (by omega), h4]; rfl
    · show up2 (fR M) 35 (pa o) (v.map pa) 35 (pa x) = (va_up (las S) o v x).map pa
      by_cases hxo : x = o
      · subst hxo; rw [up2_self, va_up_self]
      · rw [up2_ne _ _ (fun w => hxo (h.inj hx ho w.2)), va_up_ne _ _ hxo, h5]
  · have hkx := h.kl hx
    have hko := h.kp ho
    exact (h.2.1 x hx).fr (sR_sm (fun w => by rw [w] at hkx; omega)) (fun b hb => sR_sm (fun w => by rw [w] at hb; omega)) (fun b hb => sR_sm (fun w => by rw [w] at hb; omega))
theorem PA.stq {M : Mem} {pa li : Nat → Nat} {S : TS} {cp : Nat → Nat} (h : PA M pa li S cp) {o : Nat} (ho : o ≤ 40) (v : Bool) : PA (sI M 36 (pa o) (b2i v)) pa li (sth S o v) cp ∧ Fr (PZ M pa li) M (sI M 36 (pa o) (b2i v)) := by
  have f := sI_fr M 36 (pa o) (b2i v)
  refine ⟨⟨fun x hx => ?_, fun x hx => ?_, h.2.2⟩, f.mono fun b _ hb => ⟨o, ho, Or.inl hb⟩⟩
  · obtain ⟨h1, h2, h3, h4, h5, h6⟩ := h.1 x hx
    refine ⟨h1, ?_, h3, h4, h5, ?_⟩
    · show up2 (fI M) 36 (pa o) (b2i v) 32 (pa x) = _
      rw [up2_ne _ _ (by omega), h2]
    · show up2 (fI M) 36 (pa o) (b2i v) 36 (pa x) = b2i (va_up (th S) o v x)
      by_cases hxo : x = o
      · subst hxo; rw [up2_self, va_up_self]
      · rw [up2_ne _ _ (fun w => hxo (h.inj hx ho w.2)), va_up_ne _ _ hxo, h6]
  · have hkx := h.kl hx
    have hko := h.kp ho
    exact (h.2.1 x hx).fr (sI_sm (fun w => by rw [w] at hkx; omega)) (fun b hb => sI_sm (fun w => by rw [w] at hb; omega)) (fun b hb => sI_sm (fun w => by rw [w] at hb; omega))
theorem tk_len {S : TS} (h : WF S) (o p : Nat) : (ki (tk S o) p).length ≤ 39 := by
  cases hp : pr S o with
  | none => rw [tk_none hp]; exact h.klen p
  | some q =>
    rw [tk_ki h hp]
    split
    · have := h.klen q
      rw [List.length_erase]
      split <;> omega
    · exact h.klen p
theorem tk_b {S : TS} (h : WF S) (o p : Nat) : ∀ x ∈ ki (tk S o) p, x ≤ 40 := fun x hx => by
  have := (h.klt ((tk_mem h x p).mp hx).1).1
  omega
/-- the frame of a step's going: places, and the step -/
abbrev GZ (M : Mem) (pa li : Nat → Nat) (s : Nat) : Nat → Prop := fun b => PZ M pa li b ∨ b = s
theorem GZ.seq {M N K : Mem} {pa li : Nat → Nat} {s : Nat} (h : Fr (GZ M pa li s) M N) (h2 : Fr (PZ N pa li) N K) : Fr (GZ M pa li s) M K := h.trans h2 fun b hb z => Or.inl (PZ.old h b hb z)
noncomputable def cpMv (S : TS) (cp : Nat → Nat) (o q : Nat) : Nat → Nat := if dm (mG S o q) = true then cpP cp (tk S o) q else cp
theorem c_Tmove (l : Launch) (Θ : Glob) (M : Mem) (pa li : Nat → Nat) (S : TS) (cp : Nat → Nat) (hP : PA M pa li S cp) (hW : WF S) (hcp : CPok cp) (T P SL KN UD : Nat) (hT : TrO M T P SL KN UD pa) (s rr n : Nat) (row : RowT) (hs : kd M s = 4) (h98 : fI M 98 s = 0) (h96 : fR M 96 s = some rr) (hrr : RwO M rr n row) (o q : Nat) (b : Option Nat) (hb : rB row = b) (ho : 0 < o) (ho2 : o < 40) (hq : q < 40) (hb2 : ∀ x, b = some x → x < 40) : Ct l Θ y_Tmove 14 (kC cp - kC (cpMv S cp o q)) (kS cp - kS (cpMv S cp o q)) [.ref T, .ref s, .ref (pa o), .ref (pa q)] M (pV fun N => PA N pa li (dMove S o q b).1 (cpMv S cp o q) ∧ Fr (GZ M pa li s) M N ∧ Sti N pa s (dMove S o q b).2 S o ∧ StK M N s) := by
  by_cases hm : mG S o q
  · have hd : dMove S o q b = (sl (pt (tk S o) o q (mvK (tk S o) b q)) o (some q), true) := by unfold dMove; rw [if_pos (dm_t hm)]
    have hc : cpMv S cp o q = cpP cp (tk S o) q := if_pos (dm_t hm)
    rw [hd, hc]
    have hko := hP.kp (o := o) (by omega)
    have hkq := hP.kp (o := q) (by omega)
    refine Ct.start (cc := b_Tmove) (nL := 5) (ret := none) [some (.ref T), some (.ref s), some (.ref (pa o)), some (.ref (pa q)), none] mi_Tmove.1 (by decide +kernel) (by intro v hv; simp at hv; rcases hv with rfl | rfl | rfl | rfl <;> rfl) (by simp) rfl (fun p e st m args below meth c hC => ?_)
    refine r_aload_n hC 0 d_Tmove_0 rfl rfl ?_
    refine r_aload_n hC 2 d_Tmove_1 rfl rfl ?_
    refine r_aload_n hC 3 d_Tmove_2 rfl rfl ?_
    refine r_cVi hC [.ref (pa o), .ref (pa q)] rfl (c_TmayGo l Θ M pa li S cp hP hW T P SL KN UD hT o q ho2 hq) mi_TmayGo lk_T142 in_TmayGo (ci := 4) rfl rfl (by exact hT.1) rfl (Nat.le_of_ble_eq_true rfl) ⟨Nat.le_of_ble_eq_true rfl, Nat.le_of_ble_eq_true rfl⟩ ⟨Nat.zero_le _, Nat.zero_le _⟩ d_Tmove_3 (fun r M1 h1 => ?_)
    obtain ⟨rfl, rfl⟩ := h1
    refine r_if_ne hC 10 d_Tmove_6 (by decide) (fun z => ?_) (fun z => ?_)
    · skip
      refine r_aload_n hC 0 d_Tmove_10 rfl rfl ?_
      refine r_aload_n hC 1 d_Tmove_11 rfl rfl ?_
      refine r_aload_n hC 2 d_Tmove_12 rfl rfl ?_
      refine r_cVv hC [.ref s, .ref (pa o)] rfl (c_Tbegin l Θ M1 T s hT.1 hs pa li S cp hP hW o (by omega)) mi_Tbegin lk_T114 in_Tbegin (ci := 4) rfl rfl (by exact hT.1) rfl (Nat.le_of_ble_eq_true rfl) ⟨Nat.le_of_ble_eq_true rfl, Nat.le_of_ble_eq_true rfl⟩ ⟨Nat.zero_le _, Nat.zero_le _⟩ d_Tmove_13 (fun M2 h2 => ?_)
      have f2 := bgM_fr M1 s pa S o
      have st2 := bgM_sti (M := M1) (pa := pa) (S := S) (o := o) hs
      have k2 := bgM_k M1 s pa S o
      rw [← h2] at f2 st2 k2
      have hP2 := hP.st hs f2
      refine r_aload_n hC 0 d_Tmove_16 rfl rfl ?_
      refine r_aload_n hC 2 d_Tmove_17 rfl rfl ?_
      refine r_cVv hC [.ref (pa o)] rfl (c_Ttake l Θ M2 T (f2.k hT.1) pa li S cp hP2 hW o (by omega)) mi_Ttake lk_T135 in_Ttake (ci := 4) rfl rfl (by exact f2.k hT.1) rfl (Nat.le_of_ble_eq_true rfl) ⟨Nat.le_of_ble_eq_true rfl, Nat.le_of_ble_eq_true rfl⟩ ⟨Nat.zero_le _, Nat.zero_le _⟩ d_Tmove_18 (fun M3 h3 => ?_)
      obtain ⟨hP3, f3⟩ := h3
      have g3 : Fr (GZ M1 pa li s) M1 M3 := GZ.seq (f2.mono fun _ _ h => Or.inr h) f3
      have hs3 : kd M3 s = 4 := g3.k hs
      have st3 := st2.fr f3 (PZ.not hP2 (f2.k hs) (by omega))
      have k3 := k2.trans (StK.of f3 (by rw [f2.k hs]; omega) (PZ.not hP2 (f2.k hs) (by omega)))
      have hrs : rr ≠ s := fun z => by have := hrr.1; rw [z] at this; omega
      have hrr3 := hrr.fr g3 (fun z => z.elim (PZ.not hP hrr.1 (by omega)) hrs)
      have h963 : fR M3 96 s = some rr := k3.1.trans h96
      have hT3 : TrO M3 T P SL KN UD pa := hT.fr g3 (fun z => z.elim (PZ.not hP hT.1 (by omega)) (fun w => by have := hT.1; rw [w] at this; omega)) (fun z => z.elim (PZ.not hP hT.2.2.2.2.2.2.1 (by omega)) (fun w => by have := hT.2.2.2.2.2.2.1; rw [w] at this; omega))
      have h70 := hrr3.2.2.2.2.2.2.2
      rw [hb] at h70
      refine r_aload_n hC 1 d_Tmove_21 rfl rfl ?_
      refine r_getS hC 3 0 96 fl_T102 (by exact hs3) d_Tmove_22 rfl rfl (by exact h963) ?_
      refine r_cVi hC [] rfl (c_Rbehind l Θ M3 rr hrr3.1) mi_Rbehind lk_T146 in_Rbehind (ci := 2) rfl rfl (by exact hrr3.1) rfl (Nat.le_of_ble_eq_true rfl) ⟨Nat.le_of_ble_eq_true rfl, Nat.le_of_ble_eq_true rfl⟩ ⟨Nat.zero_le _, Nat.zero_le _⟩ d_Tmove_25 (fun r M4 h4 => ?_)
      obtain ⟨rfl, rfl⟩ := h4
      rw [h70]
      refine r_iconst hC (-1) d_Tmove_28 (by decide) ?_
      have hlen := tk_len hW o q
      have hkb := tk_b hW o q
      have tail : ∀ (k : Nat) (x4 : Option Nat), k = mvK (tk S o) b q → Gj p l e (rmo 14 (kC cp - kC (cpP cp (tk S o) q)) (kS cp - kS (cpP cp (tk S o) q))) st m args below meth c Θ M4 [some (.ref T), some (.ref s), some (.ref (pa o)), some (.ref (pa q)), some (va_rf x4)] 0 0 (Fn below args st Θ (kC cp - kC (cpP cp (tk S o) q)) (kS cp - kS (cpP cp (tk S o) q)) (pV fun N => PA N pa li (sl (pt (tk S o) o q (mvK (tk S o) b q)) o (some q)) (cpP cp (tk S o) q) ∧ Fr (GZ M1 pa li s) M1 N ∧ Sti N pa s true S o ∧ StK M1 N s)) 79 [.int (nI k), .ref (pa q), .ref (pa o), .ref T] := by
        intro k x4 hkk
        refine r_cVv hC [.ref (pa o), .ref (pa q), .int (nI k)] rfl (c_Tput l Θ M4 T hT3.1 pa li (tk S o) cp hP3 o q k (by omega) (by omega) (by rw [hkk]; exact mvK_le _ _ _) hlen hkb hcp) mi_Tput lk_T121 in_Tput (ci := 4) rfl rfl (by exact hT3.1) rfl (Nat.le_of_ble_eq_true rfl) ⟨Nat.le_of_ble_eq_true rfl, Nat.le_of_ble_eq_true rfl⟩ ⟨Nat.le_of_eq (Nat.zero_add _), Nat.le_of_eq (Nat.zero_add _)⟩ d_Tmove_79 (fun M5 h5 => ?_)
        obtain ⟨hP5, f5⟩ := h5
        have g5 := GZ.seq g3 f5
        refine r_aload_n hC 2 d_Tmove_82 rfl rfl ?_
        refine r_aload_n hC 3 d_Tmove_83 rfl rfl ?_
        refine r_putR hC 1 3 35 fl_T92 rfl (by exact hP5.kp (by omega)) d_Tmove_84 (v := ((some q).map pa)) rfl rfl ?_
        obtain ⟨hP6, f6⟩ := hP5.slq (o := o) (by omega) (some q)
        refine r_vret hC d_Tmove_87 (by omega) (by omega) ⟨rfl, ?_, GZ.seq g5 f6, ?_, ?_⟩
        · rw [← hkk]; exact hP6
        · exact (st3.fr f5 (PZ.not hP3 hs3 (by omega))).fr f6 (PZ.not hP5 (f5.k hs3) (by omega))
        · exact (k3.trans (StK.of f5 (by omega) (PZ.not hP3 hs3 (by omega)))).trans (StK.of f6 (by rw [f5.k hs3]; omega) (PZ.not hP5 (f5.k hs3) (by omega)))
      cases hbc : b with
      | none =>
        rw [hbc] at h70 hb tail
        refine r_icmp_ne hC 36 d_Tmove_29 (by decide) (fun z9 => absurd rfl z9) (fun _ => ?_)
        refine r_null hC d_Tmove_32 ?_
        refine r_goto hC 48 d_Tmove_33 (by decide) ?_
        refine r_an4 hC d_Tmove_48 ?_
        refine r_aload_n hC 0 d_Tmove_50 rfl rfl ?_
        refine r_aload_n hC 2 d_Tmove_51 rfl rfl ?_
        refine r_aload_n hC 3 d_Tmove_52 rfl rfl ?_
        refine r_aloadN hC 4 d_Tmove_53 rfl ?_
        refine r_ifnull hC (r := none) 78 d_Tmove_55 (by decide) (fun _ => ?_) (fun _ z9 => by cases z9)
        refine r_iconst hC 0 d_Tmove_78 (by decide) ?_
        exact tail 0 none rfl
      | some x =>
        have hx40 := hb2 x hbc
        rw [hbc] at h70 hb tail
        refine r_icmp_ne hC 36 d_Tmove_29 (by decide) (fun _ => ?_) (fun z9 => ?_)
        · skip
          refine r_aload_n hC 0 d_Tmove_36 rfl rfl ?_
          refine r_getS hC 4 1 129 fl_T11 (by exact hT3.1) d_Tmove_37 rfl rfl (by exact hT3.2.1) ?_
          refine r_aload_n hC 1 d_Tmove_40 rfl rfl ?_
          refine r_getS hC 3 0 96 fl_T102 (by exact hs3) d_Tmove_41 rfl rfl (by exact h963) ?_
          refine r_cVi hC [] rfl (c_Rbehind l Θ M4 rr hrr3.1) mi_Rbehind lk_T146 in_Rbehind (ci := 2) rfl rfl (by exact hrr3.1) rfl (Nat.le_of_ble_eq_true rfl) ⟨Nat.le_of_ble_eq_true rfl, Nat.le_of_ble_eq_true rfl⟩ ⟨Nat.zero_le _, Nat.zero_le _⟩ d_Tmove_44 (fun r M5 h5 => ?_)
          obtain ⟨rfl, rfl⟩ := h5
          rw [h70]
          refine r_aaldS hC 3 x (by rw [hT3.2.2.2.2.2.2.1]; rfl) (by omega) rfl (by rw [hT3.2.2.2.2.2.2.2.1]; exact hx40) (by rw [hT3.2.2.2.2.2.2.2.1]; omega) d_Tmove_47 (hT3.2.2.2.2.2.2.2.2 x hx40) ?_
          refine r_as4 hC d_Tmove_48 ?_
          refine r_aload_n hC 0 d_Tmove_50 rfl rfl ?_
          refine r_aload_n hC 2 d_Tmove_51 rfl rfl ?_
          refine r_aload_n hC 3 d_Tmove_52 rfl rfl ?_
          refine r_aload hC 4 d_Tmove_53 rfl ?_
          refine r_ifnull hC (r := some (pa x)) 78 d_Tmove_55 (by decide) (fun z9 => by cases z9) (fun _ _ => ?_)
          have h34x := (hP3.1 x (by omega)).2.2.2.1
          have hkx := hP3.kp (o := x) (by omega)
          have hprx : ∀ y, pr (tk S o) x = some y → y ≤ 40 := fun y hy => by
            rw [tk_pr] at hy
            by_cases hxo : x = o
            · rw [hxo, va_up_self] at hy; cases hy
            · rw [va_up_ne _ _ hxo] at hy; exact (hW.ple hy).1
          have hmem : pr (tk S o) x = some q ↔ x ∈ ki (tk S o) q := by
            rw [tk_pr, tk_mem hW]
            by_cases hxo : x = o
            · rw [hxo, va_up_self]
              exact ⟨fun w => (by cases w), fun w => absurd rfl w.2⟩
            · rw [va_up_ne _ _ hxo, hW.kp]
              exact ⟨fun w => ⟨w, hxo⟩, fun w => w.1⟩
          refine r_aload hC 4 d_Tmove_58 rfl ?_
          refine r_getR hC 1 2 34 fl_T49 (by exact hkx) d_Tmove_60 rfl rfl (by exact h34x) ?_
          refine r_aload_n hC 3 d_Tmove_63 rfl rfl ?_
          refine r_acmp_ne hC (rx := (pr (tk S o) x).map pa) (ry := some (pa q)) 78 d_Tmove_64 (by decide) (fun z9 => ?_) (fun z9 => ?_)
          · have hnm : x ∉ ki (tk S o) q := fun w => z9 ((map_pa hP3 hprx (by omega)).mpr (hmem.mpr w))
            refine r_iconst hC 0 d_Tmove_78 (by decide) ?_
            exact tail 0 (some (pa x)) (by show 0 = if x ∈ ki (tk S o) q then _ else 0; rw [if_neg hnm])
          · have hxm : x ∈ ki (tk S o) q := hmem.mp ((map_pa hP3 hprx (by omega)).mp z9)
            refine r_aload_n hC 3 d_Tmove_67 rfl rfl ?_
            refine r_aload hC 4 d_Tmove_68 rfl ?_
            refine r_cVi hC [.ref (pa x)] rfl (c_PplaceOf l Θ M5 pa li (tk S o) cp hP3 q x (by omega) hxm (tk_nd hW o q) hkb hlen) mi_PplaceOf lk_T73 in_PplaceOf (ci := 1) rfl rfl (by exact hP3.kp (by omega)) rfl (Nat.le_of_ble_eq_true rfl) ⟨Nat.le_of_ble_eq_true rfl, Nat.le_of_ble_eq_true rfl⟩ ⟨Nat.zero_le _, Nat.zero_le _⟩ d_Tmove_70 (fun r M6 h6 => ?_)
            obtain ⟨rfl, rfl⟩ := h6
            refine r_iconst hC 1 d_Tmove_73 (by decide) ?_
            refine r_iadd hC (nI ((ki (tk S o) q).idxOf x + 1)) d_Tmove_74 (nI_1 _) ?_
            refine r_goto hC 79 d_Tmove_75 (by decide) ?_
            exact tail _ (some (pa x)) (by show _ = if x ∈ ki (tk S o) q then _ else 0; rw [if_pos hxm])
        · have z9 : nI x = -1 := z9
          have h2 : (nI x).toInt = -1 := by rw [z9]; decide
          rw [nI_toInt (by omega)] at h2
          omega
    · exact absurd z (by rw [dm_t hm]; decide)
  · have hd : dMove S o q b = (S, false) := by unfold dMove; rw [if_neg (by rw [dm_f hm]; decide)]
    have hc : cpMv S cp o q = cp := if_neg (by rw [dm_f hm]; decide)
    rw [hd, hc]
    have hko := hP.kp (o := o) (by omega)
    have hkq := hP.kp (o := q) (by omega)
    refine Ct.start (cc := b_Tmove) (nL := 5) (ret := none) [some (.ref T), some (.ref s), some (.ref (pa o)), some (.ref (pa q)), none] mi_Tmove.1 (by decide +kernel) (by intro v hv; simp at hv; rcases hv with rfl | rfl | rfl | rfl <;> rfl) (by simp) rfl (fun p e st m args below meth c hC => ?_)
    refine r_aload_n hC 0 d_Tmove_0 rfl rfl ?_
    refine r_aload_n hC 2 d_Tmove_1 rfl rfl ?_
    refine r_aload_n hC 3 d_Tmove_2 rfl rfl ?_
    refine r_cVi hC [.ref (pa o), .ref (pa q)] rfl (c_TmayGo l Θ M pa li S cp hP hW T P SL KN UD hT o q ho2 hq) mi_TmayGo lk_T142 in_TmayGo (ci := 4) rfl rfl (by exact hT.1) rfl (Nat.le_of_ble_eq_true rfl) ⟨Nat.le_of_ble_eq_true rfl, Nat.le_of_ble_eq_true rfl⟩ ⟨Nat.zero_le _, Nat.zero_le _⟩ d_Tmove_3 (fun r M1 h1 => ?_)
    obtain ⟨rfl, rfl⟩ := h1
    refine r_if_ne hC 10 d_Tmove_6 (by decide) (fun z => ?_) (fun z => ?_)
    · exact absurd (by rw [dm_f hm]; rfl) z
    · exact r_vret hC d_Tmove_9 (Nat.zero_le _) (Nat.zero_le _) ⟨rfl, hP, Fr.rf, ⟨hs, h98, fun w => by cases w⟩, rfl, rfl⟩
