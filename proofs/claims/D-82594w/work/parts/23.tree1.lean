/-! FRAMES: what stays -/
def Sm (M N : Mem) (b : Nat) : Prop := kd N b = kd M b ∧ (∀ f, fI N f b = fI M f b) ∧ (∀ f, fR N f b = fR M f b) ∧ ln N b = ln M b ∧ eI N b = eI M b ∧ eR N b = eR M b ∧ ow N b = ow M b
theorem Sm.rf (M : Mem) (b : Nat) : Sm M M b := ⟨rfl, fun _ => rfl, fun _ => rfl, rfl, rfl, rfl, rfl⟩
theorem Sm.trans {M N K : Mem} {b : Nat} (h : Sm M N b) (h2 : Sm N K b) : Sm M K b :=
  ⟨h2.1.trans h.1, fun f => (h2.2.1 f).trans (h.2.1 f), fun f => (h2.2.2.1 f).trans (h.2.2.1 f), h2.2.2.2.1.trans h.2.2.2.1, h2.2.2.2.2.1.trans h.2.2.2.2.1, h2.2.2.2.2.2.1.trans h.2.2.2.2.2.1, h2.2.2.2.2.2.2.trans h.2.2.2.2.2.2⟩
/-- kinds and owners stay, and all cells but Z's -/
def Fr (Z : Nat → Prop) (M N : Mem) : Prop := (∀ b, kd M b ≠ 0 → kd N b = kd M b ∧ ow N b = ow M b) ∧ ∀ b, kd M b ≠ 0 → ¬ Z b → Sm M N b
theorem Fr.rf {Z : Nat → Prop} {M : Mem} : Fr Z M M := ⟨fun _ _ => ⟨rfl, rfl⟩, fun b _ _ => Sm.rf M b⟩
theorem Fr.trans {Z Z' : Nat → Prop} {M N K : Mem} (h : Fr Z M N) (h2 : Fr Z' N K) (hz : ∀ b, kd M b ≠ 0 → Z' b → Z b) : Fr Z M K := by
  refine ⟨fun b hb => ?_, fun b hb hn => ?_⟩
  · have h3 := h.1 b hb
    have h4 := h2.1 b (by rw [h3.1]; exact hb)
    exact ⟨h4.1.trans h3.1, h4.2.trans h3.2⟩
  · exact (h.2 b hb hn).trans (h2.2 b (by rw [(h.1 b hb).1]; exact hb) (fun q => hn (hz b hb q)))
theorem Fr.mono {Z Z' : Nat → Prop} {M N : Mem} (h : Fr Z M N) (hz : ∀ b, kd M b ≠ 0 → Z b → Z' b) : Fr Z' M N := ⟨h.1, fun b hb hn => h.2 b hb (fun q => hn (hz b hb q))⟩
theorem Fr.k {Z : Nat → Prop} {M N : Mem} (h : Fr Z M N) {b k : Nat} (hb : kd M b = k + 1) : kd N b = k + 1 := by rw [(h.1 b (by omega)).1, hb]
theorem Fr.ok {Z : Nat → Prop} {M N : Mem} (h : Fr Z M N) {z : Nat} (hz : okO M z) : okO N z := hz.mono fun b h0 _ => (h.1 b h0).1
theorem sI_sm {M : Mem} {f a : Nat} {v : Int32} {b : Nat} (h : b ≠ a) : Sm M (sI M f a v) b := ⟨rfl, fun g => up2_fld _ _ h, fun _ => rfl, rfl, rfl, rfl, rfl⟩
theorem sR_sm {M : Mem} {f a : Nat} {v : Option Nat} {b : Nat} (h : b ≠ a) : Sm M (sR M f a v) b := ⟨rfl, fun _ => rfl, fun g => up2_fld _ _ h, rfl, rfl, rfl, rfl⟩
theorem sI_fr (M : Mem) (f a : Nat) (v : Int32) : Fr (fun b => b = a) M (sI M f a v) := ⟨fun _ _ => ⟨rfl, rfl⟩, fun _ _ h => sI_sm h⟩
theorem sR_fr (M : Mem) (f a : Nat) (v : Option Nat) : Fr (fun b => b = a) M (sR M f a v) := ⟨fun _ _ => ⟨rfl, rfl⟩, fun _ _ h => sR_sm h⟩
theorem sEI_fr (M : Mem) (a k : Nat) (v : Int32) : Fr (fun b => b = a) M (sEI M a k v) := ⟨fun _ _ => ⟨rfl, rfl⟩, fun b _ h => ⟨rfl, fun _ => rfl, fun _ => rfl, rfl, by funext j; exact up2_ne _ _ (fun q => h q.1), rfl, rfl⟩⟩
theorem sER_fr (M : Mem) (a k : Nat) (v : Option Nat) : Fr (fun b => b = a) M (sER M a k v) := ⟨fun _ _ => ⟨rfl, rfl⟩, fun b _ h => ⟨rfl, fun _ => rfl, fun _ => rfl, rfl, rfl, by funext j; exact up2_ne _ _ (fun q => h q.1), rfl⟩⟩
/-- q is no cell of others: it is fresh, or the array of the list at a -/
def Qown (M : Mem) (a q : Nat) : Prop := kd M q = 0 ∨ (kd M q = 1000 + a ∧ ow M q = ow M a)
theorem GQ.own {M : Mem} {a q n cap : Nat} (h : GQ M a q n cap) : Qown M a q := by
  rcases h with h | h
  · exact Or.inr ⟨h.2.2.1, h.2.2.2.1⟩
  · exact Or.inl h.2
theorem Qown.ne {M : Mem} {a q b : Nat} (h : Qown M a q) (h0 : kd M b ≠ 0) (h1 : kd M b ≠ 1000 + a) : b ≠ q := by
  intro z
  subst z
  rcases h with h | h
  · exact h0 h
  · exact h1 h.1
theorem stL_sm {M : Mem} {a q cap n : Nat} {z : Int32} {g : Nat → Option Nat} {b : Nat} (h1 : b ≠ a) (h2 : b ≠ q) : Sm M (stL M a q cap n z g) b :=
  ⟨va_up_ne _ _ h2, fun f => by show up2 (up2 (fI M) 194 a z) 193 a (nI n) f b = _; rw [up2_fld _ _ h1, up2_fld _ _ h1], fun f => up2_fld _ _ h1, va_up_ne _ _ h2, rfl, va_up_ne _ _ h2, va_up_ne _ _ h2⟩
theorem stL_fr {M : Mem} {a q cap n : Nat} {z : Int32} {g : Nat → Option Nat} (hq : Qown M a q) : Fr (fun b => b = a ∨ kd M b = 1000 + a) M (stL M a q cap n z g) := by
  refine ⟨fun b hb => ?_, fun b hb hn => stL_sm (fun z => hn (Or.inl z)) (hq.ne hb (fun z => hn (Or.inr z)))⟩
  by_cases hbq : b = q
  · subst hbq
    rcases hq with h | h
    · exact absurd h hb
    · exact ⟨by show va_up (kd M) b _ b = _; rw [va_up_self, h.1], by show va_up (ow M) b _ b = _; rw [va_up_self, h.2]⟩
  · exact ⟨va_up_ne _ _ hbq, va_up_ne _ _ hbq⟩
theorem stL_lst {M : Mem} {a q cap n : Nat} {z : Int32} {g : Nat → Option Nat} {ys : List Nat} (hk : kd M a = 7) (hq : Qown M a q) (hn : ys.length = n) (hle : n ≤ cap) (h0 : 0 < cap) (hc : cap < 65536) (hg : ∀ i, i < n → g i = ys[i]?) : Lst (stL M a q cap n z g) a ys cap := by
  have haq : a ≠ q := hq.ne (by omega) (by omega)
  subst hn
  refine ⟨by show va_up (kd M) q _ a = 7; rw [va_up_ne _ _ haq, hk], q, ?_, Or.inl ⟨va_up_self _ _ _, h0, ?_⟩, ?_, va_up_self _ _ _, hle, hc, fun i hi => ?_⟩
  · show up2 (fR M) 192 a (some q) 192 a = _
    rw [up2_self]
  · show va_up (ow M) q _ q = va_up (ow M) q _ a
    rw [va_up_self, va_up_ne _ _ haq]
  · show up2 (up2 (fI M) 194 a z) 193 a _ 193 a = _
    rw [up2_self]
  · show va_up (eR M) q g q i = _
    rw [va_up_self, hg i hi]
theorem Lst.fr {M N : Mem} {a : Nat} {xs : List Nat} {cap : Nat} (h : Lst M a xs cap) (h1 : Sm M N a) (h2 : ∀ q, kd M q = 1000 + a → Sm M N q) (h3 : ∀ q, kd M q = 30 → Sm M N q) : Lst N a xs cap := by
  obtain ⟨hk, q, hq, hkq, hsz, hln, hle, hcap, hel⟩ := h
  have hs : Sm M N q := by
    rcases hkq with z | z
    · exact h2 q z.1
    · exact h3 q z.1
  refine ⟨by rw [h1.1, hk], q, by rw [h1.2.2.1, hq], ?_, by rw [h1.2.1, hsz], by rw [hs.2.2.2.1, hln], hle, hcap, fun i hi => by rw [hs.2.2.2.2.2.1]; exact hel i hi⟩
  rw [hs.1, hs.2.2.2.2.2.2, h1.2.2.2.2.2.2]
  exact hkq
theorem Lst.len {M : Mem} {a : Nat} {xs : List Nat} {cap : Nat} (h : Lst M a xs cap) : fI M 193 a = nI xs.length := by obtain ⟨-, q, -, -, hz, -⟩ := h; exact hz
/-- the cells of a tree's places and lists -/
def PZ (M : Mem) (pa li : Nat → Nat) : Nat → Prop := fun b => ∃ o, o ≤ 40 ∧ (b = pa o ∨ b = li o ∨ kd M b = 1000 + li o)
theorem PZ.old {Z : Nat → Prop} {M N : Mem} {pa li : Nat → Nat} (h : Fr Z M N) : ∀ b, kd M b ≠ 0 → PZ N pa li b → PZ M pa li b := by
  intro b hb ⟨o, ho, hz⟩
  rw [(h.1 b hb).1] at hz
  exact ⟨o, ho, hz⟩
theorem PA.kp {M : Mem} {pa li : Nat → Nat} {S : TS} {cp : Nat → Nat} (h : PA M pa li S cp) {o : Nat} (ho : o ≤ 40) : kd M (pa o) = 2 := (h.1 o ho).1
theorem PA.kl {M : Mem} {pa li : Nat → Nat} {S : TS} {cp : Nat → Nat} (h : PA M pa li S cp) {o : Nat} (ho : o ≤ 40) : kd M (li o) = 7 := (h.2.1 o ho).1
theorem PA.okk {M : Mem} {pa li : Nat → Nat} {S : TS} {cp : Nat → Nat} (h : PA M pa li S cp) {o : Nat} (ho : o ≤ 40) : okO M (pa o) := ⟨1, h.kp ho, as_21⟩
/-- a tree's places stay when nothing of theirs is touched -/
theorem PA.fr {Z : Nat → Prop} {M N : Mem} {pa li : Nat → Nat} {S : TS} {cp : Nat → Nat} (h : PA M pa li S cp) (hf : Fr Z M N) (hz : ∀ b, kd M b = 2 ∨ kd M b = 7 ∨ 30 ≤ kd M b → PZ M pa li b ∨ kd M b = 30 → ¬ Z b) : PA N pa li S cp := by
  refine ⟨fun o ho => ?_, fun o ho => ?_, h.2.2⟩
  · obtain ⟨h1, h2, h3, h4, h5, h6⟩ := h.1 o ho
    have hs := hf.2 (pa o) (by omega) (hz _ (Or.inl h1) (Or.inl ⟨o, ho, Or.inl rfl⟩))
    exact ⟨by rw [hs.1, h1], by rw [hs.2.1, h2], by rw [hs.2.2.1, h3], by rw [hs.2.2.1, h4], by rw [hs.2.2.1, h5], by rw [hs.2.1, h6]⟩
  · have hk := h.kl ho
    exact (h.2.1 o ho).fr (hf.2 _ (by omega) (hz _ (Or.inr (Or.inl hk)) (Or.inl ⟨o, ho, Or.inr (Or.inl rfl)⟩))) (fun q hq => hf.2 q (by omega) (hz _ (by omega) (Or.inl ⟨o, ho, Or.inr (Or.inr hq)⟩))) (fun q hq => hf.2 q (by omega) (hz _ (by omega) (Or.inr hq)))
/-- the tree object -/
def TrO (M : Mem) (T P SL KN UD : Nat) (pa : Nat → Nat) : Prop := kd M T = 5 ∧ fR M 129 T = some P ∧ fR M 130 T = some (pa 40) ∧ fR M 131 T = some SL ∧ fR M 132 T = some KN ∧ fR M 133 T = some UD ∧ kd M P = 23 ∧ ln M P = 40 ∧ ∀ o, o < 40 → eR M P o = some (pa o)
theorem TrO.fr {Z : Nat → Prop} {M N : Mem} {T P SL KN UD : Nat} {pa : Nat → Nat} (h : TrO M T P SL KN UD pa) (hf : Fr Z M N) (h1 : ¬ Z T) (h2 : ¬ Z P) : TrO N T P SL KN UD pa := by
  obtain ⟨a1, a2, a3, a4, a5, a6, a7, a8, a9⟩ := h
  have s1 := hf.2 T (by omega) h1
  have s2 := hf.2 P (by omega) h2
  exact ⟨by rw [s1.1, a1], by rw [s1.2.2.1, a2], by rw [s1.2.2.1, a3], by rw [s1.2.2.1, a4], by rw [s1.2.2.1, a5], by rw [s1.2.2.1, a6], by rw [s2.1, a7], by rw [s2.2.2.2.1, a8], fun o ho => by rw [s2.2.2.2.2.2.1]; exact a9 o ho⟩
theorem map_pa {M : Mem} {pa li : Nat → Nat} {S : TS} {cp : Nat → Nat} (h : PA M pa li S cp) {r : Option Nat} {o : Nat} (hr : ∀ x, r = some x → x ≤ 40) (ho : o ≤ 40) : r.map pa = some (pa o) ↔ r = some o := by
  cases r with
  | none => simp
  | some x =>
    refine ⟨fun z => ?_, fun z => by cases z; rfl⟩
    rw [h.inj (hr x rfl) ho (Option.some.inj z)]
theorem b2i_dm {P : Prop} {b : Bool} (h : b = true ↔ P) : b2i (dm P) = b2i b := by
  cases b with
  | true => rw [dm_t (h.mp rfl)]
  | false => rw [dm_f (fun q => by cases h.mpr q)]
theorem c_TisInBin (l : Launch) (Θ : Glob) (M : Mem) (pa li : Nat → Nat) (S : TS) (cp : Nat → Nat) (hP : PA M pa li S cp) (hW : WF S) (T P SL KN UD : Nat) (hT : TrO M T P SL KN UD pa) (o : Nat) (ho : o ≤ 40) : Ct l Θ y_TisInBin 1 0 0 [.ref T, .ref (pa o)] M (pI fun r M1 => r = b2i (dm (pr S o = some 40)) ∧ M1 = M) := by
  obtain ⟨hk, -, -, h34, -⟩ := hP.1 o ho
  have hm := map_pa hP (r := pr S o) (o := 40) (fun x hx => (hW.ple hx).1) (Nat.le_refl _)
  refine Ct.start (cc := b_TisInBin) (nL := 2) (ret := (some .boolean)) [some (.ref T), some (.ref (pa o))] mi_TisInBin.1 (by decide +kernel) (by intro v hv; simp at hv; rcases hv with rfl | rfl <;> rfl) (by simp) rfl (fun p e s m args below meth c hC => ?_)
  refine r_aload_n hC 1 d_TisInBin_0 rfl rfl ?_
  refine r_getR hC 1 2 34 fl_T49 (by exact hk) d_TisInBin_1 rfl rfl (by exact h34) ?_
  refine r_aload_n hC 0 d_TisInBin_4 rfl rfl ?_
  refine r_getS hC 4 2 130 fl_T20 (by exact hT.1) d_TisInBin_5 rfl rfl (by exact hT.2.2.1) ?_
  refine r_acmp_ne hC (rx := (pr S o).map pa) (ry := some (pa 40)) 15 d_TisInBin_8 (by decide) (fun z => ?_) (fun z => ?_)
  · skip
    refine r_iconst hC 0 d_TisInBin_15 (by decide) ?_
    exact r_zret hC d_TisInBin_16 (Or.inl rfl) (Nat.le_refl _) (Nat.le_refl _) ⟨_, rfl, by rw [dm_f (fun q => z (hm.mpr q))]; rfl, rfl⟩
  · skip
    refine r_iconst hC 1 d_TisInBin_11 (by decide) ?_
    refine r_goto hC 16 d_TisInBin_12 (by decide) ?_
    exact r_zret hC d_TisInBin_16 (Or.inr rfl) (Nat.le_refl _) (Nat.le_refl _) ⟨_, rfl, by rw [dm_t (hm.mp z)]; rfl, rfl⟩
theorem c_TisBelowBin (l : Launch) (Θ : Glob) (M : Mem) (pa li : Nat → Nat) (S : TS) (cp : Nat → Nat) (hP : PA M pa li S cp) (hW : WF S) (T P SL KN UD : Nat) (hT : TrO M T P SL KN UD pa) (o d t : Nat) (ho : o ≤ 40) (hd : anc S d o = some t) (ht : t = 0 ∨ t = 40) (hd8 : d ≤ 8) : Ct l Θ y_TisBelowBin 10 0 0 [.ref T, .ref (pa o)] M (pI fun r M1 => r = b2i (decide (t = 40)) ∧ M1 = M) := by
  refine Ct.start (cc := b_TisBelowBin) (nL := 2) (ret := (some .boolean)) [some (.ref T), some (.ref (pa o))] mi_TisBelowBin.1 (by decide +kernel) (by intro v hv; simp at hv; rcases hv with rfl | rfl <;> rfl) (by simp) rfl (fun p e s m args below meth c hC => ?_)
  refine r_aload_n hC 1 d_TisBelowBin_0 rfl rfl ?_
  refine r_cVr hC [] rfl (c_Ptop l Θ M pa li S cp hP hW d t (hW.tn ht) o ho hd) mi_Ptop lk_T52 in_Ptop (ci := 1) rfl rfl (by exact hP.kp ho) rfl (Nat.le_of_ble_eq_true rfl) ⟨by show d + 1 + 1 ≤ 10; omega, by show 8 + (1 + 11) + 32 * (d + 1) ≤ 32 * 10; omega⟩ ⟨Nat.le_of_ble_eq_true rfl, Nat.le_of_ble_eq_true rfl⟩ d_TisBelowBin_1 (fun r M1 h1 => ?_)
  obtain ⟨rfl, rfl⟩ := h1
  refine r_aload_n hC 0 d_TisBelowBin_4 rfl rfl ?_
  refine r_getS hC 4 2 130 fl_T20 (by exact hT.1) d_TisBelowBin_5 rfl rfl (by exact hT.2.2.1) ?_
  refine r_acmp_ne hC (ry := some (pa 40)) 15 d_TisBelowBin_8 (by decide) (fun z => ?_) (fun z => ?_)
  · have hne : t ≠ 40 := fun q => z (by rw [q])
    refine r_iconst hC 0 d_TisBelowBin_15 (by decide) ?_
    exact r_zret hC d_TisBelowBin_16 (Or.inl rfl) (Nat.le_refl _) (Nat.le_refl _) ⟨_, rfl, by rw [decide_eq_false hne]; rfl, rfl⟩
  · have he : t = 40 := hP.inj (by omega) (Nat.le_refl _) (Option.some.inj z)
    refine r_iconst hC 1 d_TisBelowBin_11 (by decide) ?_
    refine r_goto hC 16 d_TisBelowBin_12 (by decide) ?_
    exact r_zret hC d_TisBelowBin_16 (Or.inr rfl) (Nat.le_refl _) (Nat.le_refl _) ⟨_, rfl, by rw [decide_eq_true he]; rfl, rfl⟩
theorem fold_ge {f : Nat → Nat} {l : List Nat} {a : Nat} : a ≤ l.foldl (fun m c => max m (f c)) a ∧ ∀ c ∈ l, f c ≤ l.foldl (fun m c => max m (f c)) a := by
  induction l generalizing a with
  | nil => exact ⟨Nat.le_refl _, fun c hc => by cases hc⟩
  | cons b l ih =>
    rw [List.foldl_cons]
    obtain ⟨h1, h2⟩ := ih (a := max a (f b))
    refine ⟨by omega, fun c hc => ?_⟩
    rcases List.mem_cons.mp hc with rfl | hc
    · omega
    · exact h2 c hc
theorem fold_at {f : Nat → Nat} {l : List Nat} {a : Nat} : l.foldl (fun m c => max m (f c)) a = a ∨ ∃ c ∈ l, l.foldl (fun m c => max m (f c)) a = f c := by
  induction l generalizing a with
  | nil => exact Or.inl rfl
  | cons b l ih =>
    rw [List.foldl_cons]
    rcases ih (a := max a (f b)) with h | ⟨c, hc, h⟩
    · rw [h]
      rcases Nat.le_total a (f b) with q | q
      · exact Or.inr ⟨b, List.mem_cons_self, Nat.max_eq_right q⟩
      · exact Or.inl (Nat.max_eq_left q)
    · exact Or.inr ⟨c, List.mem_cons_of_mem _ hc, h⟩
theorem htv_spec {S : TS} (hW : WF S) : ∀ (n o : Nat), (∀ k x, anc S k x = some o → k ≤ n) → (∃ x, anc S (htv S (n + 1) o) x = some o) ∧ ∀ k x, anc S k x = some o → k ≤ htv S (n + 1) o := by
  intro n
  induction n with
  | zero =>
    intro o hb
    have hv : htv S 1 o = 0 := by
      show (ki S o).foldl _ 0 = 0
      cases hc : ki S o with
      | nil => rfl
      | cons a r =>
        have h1 : pr S a = some o := hW.kp.mpr (by rw [hc]; exact List.mem_cons_self)
        have := hb 1 a (by rw [anc_one]; exact h1)
        omega
    rw [hv]
    exact ⟨⟨o, rfl⟩, hb⟩
  | succ n ih =>
    intro o hb
    have hcb : ∀ c ∈ ki S o, ∀ k x, anc S k x = some c → k ≤ n := fun c hc k x hx => by
      have := hb (k + 1) x (anc_last hx (hW.kp.mpr hc))
      omega
    have hv : htv S (n + 1 + 1) o = (ki S o).foldl (fun m c => max m (1 + htv S (n + 1) c)) 0 := rfl
    refine ⟨?_, fun k x hk => ?_⟩
    · rcases fold_at (f := fun c => 1 + htv S (n + 1) c) (l := ki S o) (a := 0) with h | ⟨c, hc, h⟩
      · rw [hv, h]; exact ⟨o, rfl⟩
      · obtain ⟨x, hx⟩ := (ih c (hcb c hc)).1
        refine ⟨x, ?_⟩
        rw [hv, h, Nat.add_comm]
        exact anc_last hx (hW.kp.mpr hc)
    · cases k with
      | zero => omega
      | succ k =>
        rw [anc_add] at hk
        cases hc : anc S k x with
        | none => rw [hc] at hk; cases hk
        | some c =>
          rw [hc] at hk
          have hp : pr S c = some o := by rw [← anc_one]; exact hk
          have hm := hW.kp.mp hp
          have h1 := (ih c (hcb c hm)).2 k x hc
          have h2 := (fold_ge (f := fun c => 1 + htv S (n + 1) c) (l := ki S o) (a := 0)).2 c hm
          rw [hv]
          omega
theorem WF.b8 {S : TS} (h : WF S) {o : Nat} (ho : th S o = true) : ∀ k x, anc S k x = some o → k ≤ 8 := fun k x hk => by
  obtain ⟨d, t, a1, a2, a3⟩ := h.dp (h.anc_th ho hk)
  have := anc_le a3 (h.tn a2) hk
  omega
theorem c_TmayGo (l : Launch) (Θ : Glob) (M : Mem) (pa li : Nat → Nat) (S : TS) (cp : Nat → Nat) (hP : PA M pa li S cp) (hW : WF S) (T P SL KN UD : Nat) (hT : TrO M T P SL KN UD pa) (o q : Nat) (ho : o < 40) (hq : q < 40) : Ct l Θ y_TmayGo 13 0 0 [.ref T, .ref (pa o), .ref (pa q)] M (pI fun r M1 => r = b2i (dm (mG S o q)) ∧ M1 = M) := by
  have hko := hP.kp (o := o) (by omega)
  have hkq := hP.kp (o := q) (by omega)
  have h36o := (hP.1 o (by omega)).2.2.2.2.2
  have h36q := (hP.1 q (by omega)).2.2.2.2.2
  refine Ct.start (cc := b_TmayGo) (nL := 3) (ret := (some .boolean)) [some (.ref T), some (.ref (pa o)), some (.ref (pa q))] mi_TmayGo.1 (by decide +kernel) (by intro v hv; simp at hv; rcases hv with rfl | rfl | rfl <;> rfl) (by simp) rfl (fun p e s m args below meth c hC => ?_)
  have no : ¬ mG S o q → Gj p l e (rmo 13 0 0) s m args below meth c Θ M [some (.ref T), some (.ref (pa o)), some (.ref (pa q))] 0 0 (Fn below args s Θ 0 0 (pI fun r M1 => r = b2i (dm (mG S o q)) ∧ M1 = M)) 50 [] := by
    intro hn
    refine r_iconst hC 0 d_TmayGo_50 (by decide) ?_
    exact r_zret hC d_TmayGo_51 (Or.inl rfl) (Nat.le_refl _) (Nat.le_refl _) ⟨_, rfl, by rw [dm_f hn]; rfl, rfl⟩
  refine r_aload_n hC 1 d_TmayGo_0 rfl rfl ?_
  refine r_getI hC 1 4 36 fl_T45 (by exact hko) d_TmayGo_1 rfl rfl (by exact h36o) ?_
  refine r_if_eq hC 50 d_TmayGo_4 (by decide) (fun z => ?_) (fun z => ?_)
  · exact no (fun hm => by rw [hm.1] at z; exact absurd z (by decide))
  · have hto : th S o = true := by
      cases hh : th S o with
      | true => rfl
      | false => rw [hh] at z; exact absurd rfl z
    refine r_aload_n hC 2 d_TmayGo_7 rfl rfl ?_
    refine r_getI hC 1 4 36 fl_T45 (by exact hkq) d_TmayGo_8 rfl rfl (by exact h36q) ?_
    refine r_if_eq hC 50 d_TmayGo_11 (by decide) (fun z2 => ?_) (fun z2 => ?_)
    · exact no (fun hm => by rw [hm.2.1] at z2; exact absurd z2 (by decide))
    · have htq : th S q = true := by
        cases hh : th S q with
        | true => rfl
        | false => rw [hh] at z2; exact absurd rfl z2
      obtain ⟨d, t, hd8, ht, hd⟩ := hW.dp htq
      refine r_aload_n hC 2 d_TmayGo_14 rfl rfl ?_
      refine r_aload_n hC 1 d_TmayGo_15 rfl rfl ?_
      refine r_cVi hC [.ref (pa o)] rfl (c_PisWithin l Θ M pa li S cp hP hW q o d t (by omega) (by omega) (hW.tn ht) hd) mi_PisWithin lk_T56 in_PisWithin (ci := 1) rfl rfl (by exact hkq) rfl (Nat.le_of_ble_eq_true rfl) ⟨Nat.le_of_ble_eq_true rfl, Nat.le_of_ble_eq_true rfl⟩ ⟨Nat.le_of_ble_eq_true rfl, Nat.le_of_ble_eq_true rfl⟩ d_TmayGo_16 (fun r M1 h1 => ?_)
      obtain ⟨rfl, rfl⟩ := h1
      refine r_if_ne hC 50 d_TmayGo_19 (by decide) (fun z3 => ?_) (fun z3 => ?_)
      · refine no (fun hm => z3 ?_)
        rw [dm_f (fun ⟨k, hk⟩ => hm.2.2.1 k hk)]
        rfl
      · have hnw : ∀ k, anc S k q ≠ some o := fun k hk => by
          rw [dm_t ⟨k, hk⟩] at z3
          exact absurd z3 (by decide)
        refine r_aload_n hC 0 d_TmayGo_22 rfl rfl ?_
        refine r_aload_n hC 2 d_TmayGo_23 rfl rfl ?_
        refine r_cVi hC [.ref (pa q)] rfl (c_TisBelowBin l Θ M1 pa li S cp hP hW T P SL KN UD hT q d t (by omega) hd ht hd8) mi_TisBelowBin lk_T60 in_TisBelowBin (ci := 4) rfl rfl (by exact hT.1) rfl (Nat.le_of_ble_eq_true rfl) ⟨Nat.le_of_ble_eq_true rfl, Nat.le_of_ble_eq_true rfl⟩ ⟨Nat.le_of_ble_eq_true rfl, Nat.le_of_ble_eq_true rfl⟩ d_TmayGo_24 (fun r M1 h1 => ?_)
        obtain ⟨rfl, rfl⟩ := h1
        refine r_if_ne hC 50 d_TmayGo_27 (by decide) (fun z4 => ?_) (fun z4 => ?_)
        · refine no (fun hm => z4 ?_)
          obtain ⟨d2, e1, -⟩ := hm.2.2.2
          have := (anc_uni hd (hW.tn ht) e1 hW.p0).2
          rw [this]
          rfl
        · have ht0 : t = 0 := by
            rcases ht with h | h
            · exact h
            · rw [h] at z4; exact absurd z4 (by decide)
          subst ht0
          refine r_aload_n hC 2 d_TmayGo_30 rfl rfl ?_
          refine r_cVi hC [] rfl (c_Pdepth l Θ M1 pa li S cp hP hW d 0 hW.p0 q (by omega) hd) mi_Pdepth lk_T63 in_Pdepth (ci := 1) rfl rfl (by exact hkq) rfl (Nat.le_of_ble_eq_true rfl) ⟨by show d + 1 + 1 ≤ 13; omega, by show 8 + (1 + 11) + 32 * (d + 1) ≤ 32 * 13; omega⟩ ⟨Nat.le_of_ble_eq_true rfl, Nat.le_of_ble_eq_true rfl⟩ d_TmayGo_31 (fun r M1 h1 => ?_)
          obtain ⟨rfl, rfl⟩ := h1
          refine r_iconst hC 1 d_TmayGo_34 (by decide) ?_
          refine r_iadd hC (nI (d + 1)) d_TmayGo_35 (nI_1 d) ?_
          refine r_aload_n hC 1 d_TmayGo_36 rfl rfl ?_
          refine r_cVi hC [] rfl (c_Pheight l Θ M1 pa li S cp hP hW 8 o (by omega) (hW.b8 hto) (by omega)) mi_Pheight lk_T67 in_Pheight (ci := 1) rfl rfl (by exact hko) rfl (Nat.le_of_ble_eq_true rfl) ⟨Nat.le_of_ble_eq_true rfl, Nat.le_of_ble_eq_true rfl⟩ ⟨Nat.le_of_ble_eq_true rfl, Nat.le_of_ble_eq_true rfl⟩ d_TmayGo_37 (fun r M1 h1 => ?_)
          obtain ⟨rfl, rfl, hh8⟩ := h1
          obtain ⟨⟨xx, hxx⟩, hsup⟩ := htv_spec hW 8 o (hW.b8 hto)
          refine r_iadd hC (nI (d + 1 + htv S (8 + 1) o)) d_TmayGo_40 (nI_add _ _) ?_
          refine r_bipush hC (nI 8) d_TmayGo_41 (by decide) ?_
          refine r_icmp_gt hC 50 d_TmayGo_43 (by decide) (fun z5 => ?_) (fun z5 => ?_)
          · refine no (fun hm => ?_)
            obtain ⟨d2, e1, e2⟩ := hm.2.2.2
            have e3 := (anc_uni hd hW.p0 e1 hW.p0).1
            have e4 := e2 _ _ hxx
            exact absurd z5 (nI_nlt (by omega) (by omega))
          · have hle : d + 1 + htv S (8 + 1) o ≤ 8 := by
              rcases Nat.lt_or_ge 8 (d + 1 + htv S (8 + 1) o) with q9 | q9
              · exact absurd (nI_lt q9 (by omega)) z5
              · exact q9
            refine r_iconst hC 1 d_TmayGo_46 (by decide) ?_
            refine r_goto hC 51 d_TmayGo_47 (by decide) ?_
            exact r_zret hC d_TmayGo_51 (Or.inr rfl) (Nat.le_refl _) (Nat.le_refl _) ⟨_, rfl, by rw [dm_t ⟨hto, htq, hnw, d, hd, fun k x hk => by have := hsup k x hk; omega⟩]; rfl, rfl⟩
