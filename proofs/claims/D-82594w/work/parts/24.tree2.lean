/-! capacities, and what growing may still cost a tree: cells, slots -/
def capOk (c : Nat) : Prop := c = 0 ∨ c = 10 ∨ c = 15 ∨ c = 22 ∨ c = 33 ∨ c = 49
def pcC (c : Nat) : Nat := if c = 0 then 5 else if c < 15 then 4 else if c < 22 then 3 else if c < 33 then 2 else if c < 40 then 1 else 0
def pcS (c : Nat) : Nat := if c = 0 then 129 else if c < 15 then 119 else if c < 22 then 104 else if c < 33 then 82 else if c < 40 then 49 else 0
theorem cap_step {n c : Nat} (hc : capOk c) (hn : n ≤ 39) (hle : n ≤ c) : capOk (gcap n c) ∧ n < gcap n c ∧ gC n c + pcC (gcap n c) = pcC c ∧ gS n c + pcS (gcap n c) = pcS c := by
  unfold gcap gC gS
  by_cases h : n < c
  · rw [if_pos h, if_pos h, if_pos h]
    exact ⟨hc, h, by omega, by omega⟩
  · rw [if_neg h, if_neg h, if_neg h]
    have : n = c := by omega
    subst this
    rcases hc with rfl | rfl | rfl | rfl | rfl | rfl
    · exact ⟨Or.inr (Or.inl rfl), by decide, by decide, by decide⟩
    · exact ⟨Or.inr (Or.inr (Or.inl rfl)), by decide, by decide, by decide⟩
    · exact ⟨Or.inr (Or.inr (Or.inr (Or.inl rfl))), by decide, by decide, by decide⟩
    · exact ⟨Or.inr (Or.inr (Or.inr (Or.inr (Or.inl rfl)))), by decide, by decide, by decide⟩
    · exact ⟨Or.inr (Or.inr (Or.inr (Or.inr (Or.inr rfl)))), by decide, by decide, by decide⟩
    · omega
def CPok (cp : Nat → Nat) : Prop := ∀ o, o ≤ 40 → capOk (cp o)
def sumF (f : Nat → Nat) : Nat → Nat
  | 0 => 0
  | n + 1 => sumF f n + f n
def kC (cp : Nat → Nat) : Nat := sumF (fun o => pcC (cp o)) 41
def kS (cp : Nat → Nat) : Nat := sumF (fun o => pcS (cp o)) 41
theorem sumF_up (f : Nat → Nat) (p v : Nat) : ∀ n, sumF (va_up f p v) n + (if p < n then f p else 0) = sumF f n + (if p < n then v else 0) := by
  intro n
  induction n with
  | zero => simp [sumF]
  | succ n ih =>
    show sumF (va_up f p v) n + va_up f p v n + _ = sumF f n + f n + _
    by_cases h : p = n
    · subst h
      rw [if_neg (by omega), if_neg (by omega)] at ih
      rw [if_pos (by omega), if_pos (by omega), va_up_self]
      omega
    · rw [va_up_ne _ _ (Ne.symm h)]
      by_cases h2 : p < n
      · rw [if_pos h2, if_pos h2] at ih
        rw [if_pos (by omega), if_pos (by omega)]
        omega
      · rw [if_neg h2, if_neg h2] at ih
        rw [if_neg (by omega), if_neg (by omega)]
        omega
theorem up_comp {g : Nat → Nat} {cp : Nat → Nat} {p c : Nat} : (fun o => g (va_up cp p c o)) = va_up (fun o => g (cp o)) p (g c) := by
  funext o
  by_cases h : o = p
  · subst h; rw [va_up_self, va_up_self]
  · rw [va_up_ne _ _ h, va_up_ne _ _ h]
theorem kC_up {cp : Nat → Nat} {p c : Nat} (hp : p ≤ 40) : kC (va_up cp p c) + pcC (cp p) = kC cp + pcC c := by
  unfold kC
  rw [up_comp (g := pcC)]
  have := sumF_up (fun o => pcC (cp o)) p (pcC c) 41
  rw [if_pos (by omega), if_pos (by omega)] at this
  exact this
theorem kS_up {cp : Nat → Nat} {p c : Nat} (hp : p ≤ 40) : kS (va_up cp p c) + pcS (cp p) = kS cp + pcS c := by
  unfold kS
  rw [up_comp (g := pcS)]
  have := sumF_up (fun o => pcS (cp o)) p (pcS c) 41
  rw [if_pos (by omega), if_pos (by omega)] at this
  exact this
/-- the capacities after one more child of p -/
def cpP (cp : Nat → Nat) (S : TS) (p : Nat) : Nat → Nat := va_up cp p (gcap (ki S p).length (cp p))
theorem cpP_ok {cp : Nat → Nat} {S : TS} {p : Nat} (h : CPok cp) (hp : p ≤ 40) (hn : (ki S p).length ≤ 39) (hle : (ki S p).length ≤ cp p) : CPok (cpP cp S p) ∧ kC cp = gC (ki S p).length (cp p) + kC (cpP cp S p) ∧ kS cp = gS (ki S p).length (cp p) + kS (cpP cp S p) := by
  have h1 := cap_step (h p hp) hn hle
  have h2 := kC_up (cp := cp) (p := p) (c := gcap (ki S p).length (cp p)) hp
  have h3 := kS_up (cp := cp) (p := p) (c := gcap (ki S p).length (cp p)) hp
  refine ⟨fun o ho => ?_, by unfold cpP; omega, by unfold cpP; omega⟩
  by_cases hop : o = p
  · subst hop
    show capOk (va_up cp o _ o)
    rw [va_up_self]
    exact h1.1
  · show capOk (va_up cp p _ o)
    rw [va_up_ne _ _ hop]
    exact h o ho
theorem capOk.lt {c : Nat} (h : capOk c) : c < 40000 := by
  rcases h with rfl | rfl | rfl | rfl | rfl | rfl <;> omega
theorem ins_map {l : List Nat} {pa : Nat → Nat} {k x : Nat} : (l.map pa).insertIdx k (pa x) = (l.insertIdx k x).map pa := by
  induction l generalizing k with
  | nil => cases k <;> simp
  | cons a l ih =>
    cases k with
    | zero => simp
    | succ k => simp [ih]
theorem er_map {l : List Nat} {pa : Nat → Nat} {k : Nat} : (l.map pa).eraseIdx k = (l.eraseIdx k).map pa := by
  induction l generalizing k with
  | nil => simp
  | cons a l ih =>
    cases k with
    | zero => simp
    | succ k => simp [ih]
theorem er_idx {l : List Nat} {o : Nat} (h : o ∈ l) : l.eraseIdx (l.idxOf o) = l.erase o := by
  induction l with
  | nil => cases h
  | cons a l ih =>
    by_cases ha : a = o
    · subst ha; simp
    · have h2 : o ∈ l := by
        rcases List.mem_cons.mp h with z | z
        · exact absurd z.symm ha
        · exact z
      rw [List.erase_cons_tail (by simpa using ha), show (a :: l).idxOf o = l.idxOf o + 1 by rw [List.idxOf_cons, show (a == o) = false by simpa using ha]; rfl, List.eraseIdx_cons_succ, ih h2]
theorem PA.le {M : Mem} {pa li : Nat → Nat} {S : TS} {cp : Nat → Nat} (h : PA M pa li S cp) {o : Nat} (ho : o ≤ 40) : (ki S o).length ≤ cp o := by
  obtain ⟨-, q, -, -, -, -, hle, -⟩ := h.2.1 o ho
  simpa using hle
/-- a list of children anew, and o's parent -/
theorem PA.mv {M N : Mem} {pa li : Nat → Nat} {S : TS} {cp : Nat → Nat} (hP : PA M pa li S cp) {o p q cap n : Nat} {z : Int32} {g : Nat → Option Nat} {ys : List Nat} {v : Option Nat} (ho : o ≤ 40) (hp : p ≤ 40) (hq : Qown M (li p) q) (hn : ys.length = n) (hle : n ≤ cap) (h0 : 0 < cap) (hc : cap < 65536) (hg : ∀ i, i < n → g i = (ys.map pa)[i]?)
    (hN : N = sR (stL M (li p) q cap n z g) 34 (pa o) (v.map pa)) : PA N pa li (th S, va_up (pr S) o v, las S, va_up (ki S) p ys) (va_up cp p cap) ∧ Fr (PZ M pa li) M N := by
  subst hN
  have hkp : ∀ x, x ≤ 40 → pa x ≠ li p := fun x hx z => by have := hP.kp hx; have := hP.kl hp; rw [z] at *; omega
  have f1 := stL_fr (cap := cap) (n := n) (z := z) (g := g) hq
  have f2 := sR_fr (stL M (li p) q cap n z g) 34 (pa o) (v.map pa)
  have sp : ∀ x, x ≤ 40 → Sm M (stL M (li p) q cap n z g) (pa x) := fun x hx => f1.2 _ (by have := hP.kp hx; omega) (fun w => by
    have := hP.kp hx
    rcases w with w | w
    · exact hkp x hx w
    · omega)
  refine ⟨⟨fun x hx => ?_, fun x hx => ?_, hP.2.2⟩, f1.mono (fun b _ hb => ⟨p, hp, Or.inr hb⟩) |>.trans f2 (fun b _ hb => ⟨o, ho, Or.inl hb⟩)⟩
  · obtain ⟨h1, h2, h3, h4, h5, h6⟩ := hP.1 x hx
    have s1 := sp x hx
    refine ⟨?_, ?_, ?_, ?_, ?_, ?_⟩
    · exact s1.1.trans h1
    · exact (s1.2.1 32).trans h2
    · show up2 (fR (stL M (li p) q cap n z g)) 34 (pa o) (v.map pa) 33 (pa x) = _
      rw [up2_ne _ _ (by omega), s1.2.2.1, h3]
    · show up2 (fR (stL M (li p) q cap n z g)) 34 (pa o) (v.map pa) 34 (pa x) = (va_up (pr S) o v x).map pa
      by_cases hxo : x = o
      · subst hxo; rw [up2_self, va_up_self]
      · rw [up2_ne _ _ (fun w => hxo (hP.inj hx ho w.2)), va_up_ne _ _ hxo, s1.2.2.1, h4]
    · show up2 (fR (stL M (li p) q cap n z g)) 34 (pa o) (v.map pa) 35 (pa x) = _
      rw [up2_ne _ _ (by omega), s1.2.2.1, h5]; rfl
    · exact (s1.2.1 36).trans h6
  · show Lst _ (li x) ((va_up (ki S) p ys x).map pa) (va_up cp p cap x)
    have hkx := hP.kl hx
    by_cases hxp : x = p
    · subst hxp
      rw [va_up_self, va_up_self]
      refine (stL_lst hkx hq (by simp [hn]) hle h0 hc hg).fr (sR_sm (fun w => hkp o ho w.symm)) (fun b hb => sR_sm ?_) (fun b hb => sR_sm ?_)
      · intro w; subst w; rw [f1.k (hP.kp ho)] at hb; omega
      · intro w; subst w; rw [f1.k (hP.kp ho)] at hb; omega
    · rw [va_up_ne _ _ hxp, va_up_ne _ _ hxp]
      have hlx : li x ≠ li p := fun w => hxp (hP.2.2 x p hx hp w)
      refine (hP.2.1 x hx).fr ((f1.2 _ (by omega) (fun w => ?_)).trans (sR_sm (fun w => ?_))) (fun b hb => (f1.2 _ (by omega) (fun w => ?_)).trans (sR_sm (fun w => ?_))) (fun b hb => (f1.2 _ (by omega) (fun w => ?_)).trans (sR_sm (fun w => ?_)))
      · rcases w with w | w
        · exact hlx w
        · omega
      · have := hP.kp ho; rw [← w] at this; omega
      · rcases w with w | w
        · rw [w, hP.kl hp] at hb; omega
        · omega
      · have := hP.kp ho; rw [← w] at this; omega
      · rcases w with w | w
        · rw [w, hP.kl hp] at hb; omega
        · omega
      · have := hP.kp ho; rw [← w] at this; omega
theorem c_Tput (l : Launch) (Θ : Glob) (M : Mem) (T : Nat) (hT : kd M T = 5) (pa li : Nat → Nat) (S : TS) (cp : Nat → Nat) (hP : PA M pa li S cp) (o p k : Nat) (ho : o ≤ 40) (hp : p ≤ 40) (hk : k ≤ (ki S p).length) (hlen : (ki S p).length ≤ 39) (hkb : ∀ x ∈ ki S p, x ≤ 40) (hcp : CPok cp) : Ct l Θ y_Tput 6 (kC cp - kC (cpP cp S p)) (kS cp - kS (cpP cp S p)) [.ref T, .ref (pa o), .ref (pa p), .int (nI k)] M (pV fun N => PA N pa li (pt S o p k) (cpP cp S p) ∧ Fr (PZ M pa li) M N) := by
  have hkp := hP.kp hp
  have hko := hP.kp ho
  have h33 := (hP.1 p hp).2.2.1
  have hL := hP.2.1 p hp
  have hcs := cap_step (hcp p hp) hlen (hP.le hp)
  obtain ⟨hc1, hc2, hc3⟩ := cpP_ok hcp hp hlen (hP.le hp)
  have e1 : kC cp - kC (cpP cp S p) = gC (ki S p).length (cp p) := by omega
  have e2 : kS cp - kS (cpP cp S p) = gS (ki S p).length (cp p) := by omega
  rw [e1, e2]
  refine Ct.start (cc := b_Tput) (nL := 4) (ret := none) [some (.ref T), some (.ref (pa o)), some (.ref (pa p)), some (.int (nI k))] mi_Tput.1 (by decide +kernel) (by intro v hv; simp at hv; rcases hv with rfl | rfl | rfl | rfl <;> rfl) (by simp) rfl (fun prg e s m args below meth c hC => ?_)
  refine r_aload_n hC 2 d_Tput_0 rfl rfl ?_
  refine r_getS hC 1 1 33 fl_T70 (by exact hkp) d_Tput_1 rfl rfl (by exact h33) ?_
  refine r_iload_n hC 3 d_Tput_4 rfl rfl ?_
  refine r_aload_n hC 1 d_Tput_5 rfl rfl ?_
  have con := c_Aadd2 l Θ M (li p) k (pa o) (cp p) ((ki S p).map pa) hL (by simpa using hk) (hP.okk ho) (fun z hz => by
    obtain ⟨x, hx, rfl⟩ := List.mem_map.mp hz
    exact hP.okk (hkb x hx)) (hcp p hp).lt
  rw [List.length_map] at con
  refine r_cVv hC [.int (nI k), .ref (pa o)] rfl (con) mi_Aadd2 lk_T81 in_Aadd2 (ci := 6) rfl rfl (by exact hL.1) rfl (Nat.le_of_ble_eq_true rfl) ⟨Nat.le_of_ble_eq_true rfl, Nat.le_of_ble_eq_true rfl⟩ ⟨by show 0 + _ ≤ gC _ _; omega, by show 0 + _ ≤ gS _ _; omega⟩ d_Tput_6 (fun M1 h1 => ?_)
  obtain ⟨q, g, hq, hg, rfl⟩ := h1
  have f1 := stL_fr (cap := gcap (ki S p).length (cp p)) (n := (ki S p).length + 1) (z := fI M 194 (li p) + 1) (g := g) hq.own
  refine r_aload_n hC 1 d_Tput_9 rfl rfl ?_
  refine r_aload_n hC 2 d_Tput_10 rfl rfl ?_
  refine r_putR hC 1 2 34 fl_T49 rfl (by exact f1.k hko) d_Tput_11 (v := (some (pa p))) rfl rfl ?_
  refine r_vret hC d_Tput_14 (by show 0 + _ ≤ _; omega) (by show 0 + _ ≤ _; omega) ⟨rfl, ?_⟩
  have hgl : gcap (ki S p).length (cp p) < 65536 := by have := hcs.1.lt; omega
  exact hP.mv (v := some p) (ys := (ki S p).insertIdx k o) ho hp hq.own (List.length_insertIdx_of_le_length hk o) hcs.2.1 (by omega) hgl (fun i hi => by rw [hg i hi, ins_map]) rfl
theorem c_Ttake (l : Launch) (Θ : Glob) (M : Mem) (T : Nat) (hT : kd M T = 5) (pa li : Nat → Nat) (S : TS) (cp : Nat → Nat) (hP : PA M pa li S cp) (hW : WF S) (o : Nat) (ho : o ≤ 40) : Ct l Θ y_Ttake 5 0 0 [.ref T, .ref (pa o)] M (pV fun N => PA N pa li (tk S o) cp ∧ Fr (PZ M pa li) M N) := by
  have hko := hP.kp ho
  have h34 := (hP.1 o ho).2.2.2.1
  refine Ct.start (cc := b_Ttake) (nL := 2) (ret := none) [some (.ref T), some (.ref (pa o))] mi_Ttake.1 (by decide +kernel) (by intro v hv; simp at hv; rcases hv with rfl | rfl <;> rfl) (by simp) rfl (fun p e s m args below meth c hC => ?_)
  cases hp : pr S o with
  | none =>
    rw [hp] at h34
    have h34 : fR M 34 (pa o) = none := h34
    refine r_aload_n hC 1 d_Ttake_0 rfl rfl ?_
    refine r_getR hC 1 2 34 fl_T49 (by exact hko) d_Ttake_1 rfl rfl (by exact h34) ?_
    refine r_ifnull hC (r := none) 26 d_Ttake_4 (by decide) (fun _ => ?_) (fun _ z => by cases z)
    refine r_aload_n hC 1 d_Ttake_26 rfl rfl ?_
    refine r_null hC d_Ttake_27 ?_
    refine r_putR hC 1 2 34 fl_T49 rfl (by exact hko) d_Ttake_28 (v := none) rfl rfl ?_
    refine r_vret hC d_Ttake_31 (Nat.le_refl _) (Nat.le_refl _) ⟨rfl, ?_⟩
    have e : sR M 34 (pa o) none = M := mem_ext rfl rfl (up2_id _ h34) rfl rfl rfl rfl
    rw [e, tk_none hp]
    exact ⟨hP, Fr.rf⟩
  | some p2 =>
    rw [hp] at h34
    have h34 : fR M 34 (pa o) = some (pa p2) := h34
    have hp2 := (hW.ple hp).1
    have hom := hW.kp.mp hp
    have hkp := hP.kp hp2
    have h33 := (hP.1 p2 hp2).2.2.1
    have hL := hP.2.1 p2 hp2
    have hix : (ki S p2).idxOf o < (ki S p2).length := List.idxOf_lt_length_of_mem hom
    refine r_aload_n hC 1 d_Ttake_0 rfl rfl ?_
    refine r_getR hC 1 2 34 fl_T49 (by exact hko) d_Ttake_1 rfl rfl (by exact h34) ?_
    refine r_ifnull hC (r := some (pa p2)) 26 d_Ttake_4 (by decide) (fun z => by cases z) (fun _ _ => ?_)
    refine r_aload_n hC 1 d_Ttake_7 rfl rfl ?_
    refine r_getS hC 1 2 34 fl_T49 (by exact hko) d_Ttake_8 rfl rfl (by exact h34) ?_
    refine r_getS hC 1 1 33 fl_T70 (by exact hkp) d_Ttake_11 rfl rfl (by exact h33) ?_
    refine r_aload_n hC 1 d_Ttake_14 rfl rfl ?_
    refine r_getS hC 1 2 34 fl_T49 (by exact hko) d_Ttake_15 rfl rfl (by exact h34) ?_
    refine r_aload_n hC 1 d_Ttake_18 rfl rfl ?_
    refine r_cVi hC [.ref (pa o)] rfl (c_PplaceOf l Θ M pa li S cp hP p2 o hp2 hom (hW.nd p2) (fun y hy => by have := (hW.klt hy).1; omega) (hW.klen p2)) mi_PplaceOf lk_T73 in_PplaceOf (ci := 1) rfl rfl (by exact hkp) rfl (Nat.le_of_ble_eq_true rfl) ⟨Nat.le_of_ble_eq_true rfl, Nat.le_of_ble_eq_true rfl⟩ ⟨Nat.le_of_ble_eq_true rfl, Nat.le_of_ble_eq_true rfl⟩ d_Ttake_19 (fun r M1 h1 => ?_)
    obtain ⟨rfl, rfl⟩ := h1
    refine r_cVr hC [.int (nI ((ki S p2).idxOf o))] rfl (c_Aremove l Θ M1 (li p2) ((ki S p2).idxOf o) (cp p2) ((ki S p2).map pa) hL (by simpa using hix) (fun z hz => by obtain ⟨x, hx, rfl⟩ := List.mem_map.mp hz; exact hP.okk (by have := (hW.klt hx).1; omega))) mi_Aremove lk_T77 in_Aremove (ci := 6) rfl rfl (by exact hL.1) rfl (Nat.le_of_ble_eq_true rfl) ⟨Nat.le_of_ble_eq_true rfl, Nat.le_of_ble_eq_true rfl⟩ ⟨Nat.le_of_ble_eq_true rfl, Nat.le_of_ble_eq_true rfl⟩ d_Ttake_22 (fun r M2 h2 => ?_)
    obtain ⟨q, g, ⟨hq1, hq2, hq3, hq4⟩, hg, rfl⟩ := h2
    rw [List.length_map] at hg ⊢
    have hqo : Qown M1 (li p2) q := Or.inr ⟨hq2, hq3⟩
    have f1 := stL_fr (cap := cp p2) (n := (ki S p2).length - 1) (z := fI M1 194 (li p2) + 1) (g := g) hqo
    refine r_pop hC d_Ttake_25 (by cases r <;> rfl) ?_
    refine r_aload_n hC 1 d_Ttake_26 rfl rfl ?_
    refine r_null hC d_Ttake_27 ?_
    refine r_putR hC 1 2 34 fl_T49 rfl (by exact f1.k hko) d_Ttake_28 (v := none) rfl rfl ?_
    refine r_vret hC d_Ttake_31 (Nat.le_refl _) (Nat.le_refl _) ⟨rfl, ?_⟩
    have hle := hP.le hp2
    have hc65 : cp p2 < 65536 := by obtain ⟨-, _, -, -, -, -, -, hz, -⟩ := hL; exact hz
    have key := hP.mv (v := none) (ys := (ki S p2).erase o) (n := (ki S p2).length - 1) (cap := cp p2) (z := fI M1 194 (li p2) + 1) (g := g) ho hp2 hqo (by rw [List.length_erase, if_pos hom]) (by omega) (by omega) hc65 (fun i hi => by rw [hg i hi, er_map, er_idx hom]) rfl
    rw [va_up_id cp rfl] at key
    rw [tk_some hp]
    exact key
/-- what a step keeps of how all was -/
def bgM (M : Mem) (s : Nat) (pa : Nat → Nat) (S : TS) (o : Nat) : Mem := sI (sR (sR (sR (sI M 98 s 1) 99 s (some (pa o))) 100 s ((pr S o).map pa)) 101 s ((las S o).map pa)) 102 s (nI (atK S o))
theorem bgM_fr (M : Mem) (s : Nat) (pa : Nat → Nat) (S : TS) (o : Nat) : Fr (fun b => b = s) M (bgM M s pa S o) :=
  ((((sI_fr M 98 s 1).trans (sR_fr _ 99 s _) (fun _ _ h => h)).trans (sR_fr _ 100 s _) (fun _ _ h => h)).trans (sR_fr _ 101 s _) (fun _ _ h => h)).trans (sI_fr _ 102 s _) (fun _ _ h => h)
theorem PA.st {M N : Mem} {pa li : Nat → Nat} {S : TS} {cp : Nat → Nat} (h : PA M pa li S cp) {s : Nat} (hs : kd M s = 4) (hf : Fr (fun b => b = s) M N) : PA N pa li S cp :=
  h.fr hf (fun b h1 h2 z => by
    have z : b = s := z
    subst z
    omega)
theorem c_Tbegin (l : Launch) (Θ : Glob) (M : Mem) (T s : Nat) (hT : kd M T = 5) (hs : kd M s = 4) (pa li : Nat → Nat) (S : TS) (cp : Nat → Nat) (hP : PA M pa li S cp) (hW : WF S) (o : Nat) (ho : o ≤ 40) : Ct l Θ y_Tbegin 5 0 0 [.ref T, .ref s, .ref (pa o)] M (pV fun N => N = bgM M s pa S o) := by
  have hko := hP.kp ho
  have h34 := (hP.1 o ho).2.2.2.1
  have h35 := (hP.1 o ho).2.2.2.2.1
  have hne : pa o ≠ s := fun z => by rw [z, hs] at hko; omega
  refine Ct.start (cc := b_Tbegin) (nL := 3) (ret := none) [some (.ref T), some (.ref s), some (.ref (pa o))] mi_Tbegin.1 (by decide +kernel) (by intro v hv; simp at hv; rcases hv with rfl | rfl | rfl <;> rfl) (by simp) rfl (fun p e st m args below meth c hC => ?_)
  refine r_aload_n hC 1 d_Tbegin_0 rfl rfl ?_
  refine r_iconst hC 1 d_Tbegin_1 (by decide) ?_
  refine r_putI hC 3 2 98 fl_T85 rfl (by exact hs) d_Tbegin_2 rfl rfl rfl rfl ?_
  refine r_aload_n hC 1 d_Tbegin_5 rfl rfl ?_
  refine r_aload_n hC 2 d_Tbegin_6 rfl rfl ?_
  refine r_putR hC 3 3 99 fl_T88 rfl (by exact hs) d_Tbegin_7 (v := (some (pa o))) rfl rfl ?_
  refine r_aload_n hC 1 d_Tbegin_10 rfl rfl ?_
  refine r_aload_n hC 2 d_Tbegin_11 rfl rfl ?_
  refine r_getR hC 1 2 34 fl_T49 (by exact hko) d_Tbegin_12 rfl rfl (by exact h34) ?_
  refine r_putR hC 3 4 100 fl_T91 rfl (by exact hs) d_Tbegin_15 (v := ((pr S o).map pa)) rfl rfl ?_
  refine r_aload_n hC 1 d_Tbegin_18 rfl rfl ?_
  refine r_aload_n hC 2 d_Tbegin_19 rfl rfl ?_
  refine r_getR hC 1 3 35 fl_T92 (by exact hko) d_Tbegin_20 rfl rfl (by exact h35) ?_
  refine r_putR hC 3 5 101 fl_T95 rfl (by exact hs) d_Tbegin_23 (v := ((las S o).map pa)) rfl rfl ?_
  refine r_aload_n hC 1 d_Tbegin_26 rfl rfl ?_
  refine r_aload_n hC 2 d_Tbegin_27 rfl rfl ?_
  refine r_getR hC 1 2 34 fl_T49 (by exact hko) d_Tbegin_28 rfl rfl (by exact h34) ?_
  cases hp : pr S o with
  | none =>
    refine r_ifnonnull hC (r := none) 38 d_Tbegin_31 (by decide) (fun _ z => by cases z) (fun _ => ?_)
    refine r_iconst hC 0 d_Tbegin_34 (by decide) ?_
    refine r_goto hC 46 d_Tbegin_35 (by decide) ?_
    refine r_putI hC 3 6 102 fl_T96 rfl (by exact hs) d_Tbegin_46 rfl rfl rfl rfl ?_
    refine r_vret hC d_Tbegin_49 (Nat.le_refl _) (Nat.le_refl _) ⟨rfl, ?_⟩
    unfold bgM atK
    rw [hp]
    rfl
  | some p2 =>
    have hp2 := (hW.ple hp).1
    refine r_ifnonnull hC (r := some (pa p2)) 38 d_Tbegin_31 (by decide) (fun _ _ => ?_) (fun z => by cases z)
    have hP2 := hP.st (N := sR (sR (sR (sI M 98 s 1) 99 s (some (pa o))) 100 s ((some p2).map pa)) 101 s ((las S o).map pa)) hs ((((sI_fr M 98 s 1).trans (sR_fr _ 99 s _) (fun _ _ h => h)).trans (sR_fr _ 100 s _) (fun _ _ h => h)).trans (sR_fr _ 101 s _) (fun _ _ h => h))
    have h34b := (hP2.1 o ho).2.2.2.1
    rw [hp] at h34b
    refine r_aload_n hC 2 d_Tbegin_38 rfl rfl ?_
    refine r_getS hC 1 2 34 fl_T49 (by exact hko) d_Tbegin_39 rfl rfl (by exact h34b) ?_
    refine r_aload_n hC 2 d_Tbegin_42 rfl rfl ?_
    refine r_cVi hC [.ref (pa o)] rfl (c_PplaceOf l Θ _ pa li S cp hP2 p2 o hp2 (hW.kp.mp hp) (hW.nd p2) (fun y hy => by have := (hW.klt hy).1; omega) (hW.klen p2)) mi_PplaceOf lk_T73 in_PplaceOf (ci := 1) rfl rfl (by exact hP2.kp hp2) rfl (Nat.le_of_ble_eq_true rfl) ⟨Nat.le_of_ble_eq_true rfl, Nat.le_of_ble_eq_true rfl⟩ ⟨Nat.le_of_ble_eq_true rfl, Nat.le_of_ble_eq_true rfl⟩ d_Tbegin_43 (fun r M1 h1 => ?_)
    obtain ⟨rfl, rfl⟩ := h1
    refine r_putI hC 3 6 102 fl_T96 rfl (by exact hs) d_Tbegin_46 rfl rfl rfl rfl ?_
    refine r_vret hC d_Tbegin_49 (Nat.le_refl _) (Nat.le_refl _) ⟨rfl, ?_⟩
    unfold bgM atK
    rw [hp]
