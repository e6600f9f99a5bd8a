section RF
variable {p : Program} {l : Launch} {e : Env} {R : Room} {s : State} {m : MethodId} {args : Array Value} {below : List Frame} {meth : Method} {c : Code} {Θ : Glob} {M : Mem} {L : List (Option Value)} {cells slots : Nat} {Q : State → Prop} {pc : Nat} {rest : List Value} {y : MethodName} {cc : ByteArray} {nL : Nat} {ret : Option FieldType} {mc ms : Nat} {post : Option Value → Mem → Prop}
theorem run_go5 {st : List Value} {a : Array Value} (hr : ∀ (H : Heap) (locs : List Loc) (ls : Array Slot), Rep Θ M H → hasL ls L → va_Run5 p l e R s m args below meth c H locs cells slots mc ms (F0 m pc ls st) rest (Qv Θ post a) (fun q => Θ.B.size ≤ q))
    (k : ∀ (v : Option Value) (M' : Mem), post v M' → Gj p l e R s m args below meth c Θ M' L (cells + mc) (slots + ms) Q (pc + 5) (v.toList ++ rest)) : Gj p l e R s m args below meth c Θ M L cells slots Q pc st := by
  intro H locs ls hR hL hl T hT X
  obtain ⟨v, st₀, t, T', L2, h0, X', hL2, e1, e2, ⟨v2, M', hv, hp, hR'⟩, hgo⟩ := hr H locs ls hR hl T hT X
  cases hv
  obtain ⟨t2, a1, b1⟩ := k v M' hp t.heap (locs ++ L2) ls hR' (fun q hq => by
    rcases List.mem_append.mp hq with h | h
    · exact hL q h
    · exact hL2 q h) hl T' e1 X'
  exact ⟨t2, hgo t2 a1, b1⟩
/-- what an interface's call asks -/
def Fc (own C : String) (idx : Nat) (x y2 : MethodName) : Prop := Cond.methodLink own idx x ∈ TT ∧ Cond.declares x ∈ TT ∧ Cond.interfaceMethod x.cls x.cls x.name x.desc ∈ TT ∧ Cond.selects C x y2 ∈ TT ∧ Cond.instanceMethod y2 ∈ TT ∧ Cond.publicMethod y2 ∈ TT ∧ Cond.unhidden C x.name x.desc ∈ TT ∧ Cond.castable C x.cls ∈ TT ∧ (x.cls ≠ "java/lang/invoke/MethodHandle" ∧ x.cls ≠ "java/lang/invoke/VarHandle") ∧ x.desc = y2.desc
theorem r_cF {x y2 : MethodName} {c2 : ByteArray} {n2 d2 n idx b ci count : Nat} {ret2 : Option FieldType} {r : vw_C} (hC : Cx p s m args meth c Θ y cc nL ret) (As : List Value) (hLn : L.length = nL) (hM : Ct l Θ y2 d2 mc ms (.ref b :: As) M post) (hm : Mi y2 c2 n2 ret2 n) (hF : Fc y.cls r.1 idx x y2) (hc : classes[ci]? = some r) (hk : kd M b = ci + 1) (hn : As.length = n) (hcat : (rest.map fun v => v.category).sum ≤ 8) (hR : d2 + 1 ≤ R.frames ∧ 8 + (n2 + 11) + 32 * d2 ≤ R.locals) (hf : cells + mc ≤ R.cells ∧ slots + ms ≤ R.slots) (d : decode cc pc = .ok (.invokeinterface idx count, 5))
    (k : ∀ (v : Option Value) (M' : Mem), post v M' → Gj p l e R s m args below meth c Θ M' L (cells + mc) (slots + ms) Q (pc + 5) (v.toList ++ rest)) : Gj p l e R s m args below meth c Θ M L cells slots Q pc (As.reverse ++ .ref b :: rest) := by
  have ht := hC.2.2.2.2.1
  obtain ⟨f1, f2, f3, f4, f5, f6, f7, f8, f9, f10⟩ := hF
  refine run_go5 (a := (Value.ref b :: As).toArray) (fun H locs ls hRp hl => ?_) k
  refine va_runF (C := r.1) (As := As) (rest := rest) (nL := L.length) (Ts := TT) (hC.2.2.2.2.2.1.1.1 ci r hc).2 ⟨hC.1, hC.2.1, hC.2.2.1.trans hLn.symm, hC.2.2.2.1, ht⟩ hM ⟨⟨rfl, rfl, hR.1, hR.2, tt_warm (U := s) ht, hm.1⟩, ht _ f1, ht _ f2, ht _ f3, ht _ f4, ht _ f5, ht _ f6, ht _ f7, ht _ f8, ht _ hm.2.1, ht _ hm.1, f9, fun sig h => ?_⟩ ⟨Pv.blind, hRp.recv hC.2.2.2.2.2.1 hk hc, pre_ok hC hRp⟩ rfl hn hl.1 rfl (lv_room hcat) d hf
  have h2 := hm.2.2.2
  rw [← f10, h] at h2
  exact (Option.some.inj h2).symm
end RF
abbrev x_hasNext : MethodName := ⟨"java/util/Iterator", "hasNext", "()Z"⟩
abbrev x_next : MethodName := ⟨"java/util/Iterator", "next", "()Ljava/lang/Object;"⟩
theorem fc_hasNext : Fc "BinTrees" "java/util/ArrayList$Itr" 91 x_hasNext y_IhasNext := ⟨tt_mem 524 (by decide +kernel) rfl, tt_mem 526 (by decide +kernel) rfl, tt_mem 525 (by decide +kernel) rfl, tt_mem 528 (by decide +kernel) rfl, tt_mem 530 (by decide +kernel) rfl, tt_mem 531 (by decide +kernel) rfl, tt_mem 529 (by decide +kernel) rfl, tt_mem 527 (by decide +kernel) rfl, by decide +kernel, rfl⟩
theorem fc_next : Fc "BinTrees" "java/util/ArrayList$Itr" 97 x_next y_Inext := ⟨tt_mem 534 (by decide +kernel) rfl, tt_mem 536 (by decide +kernel) rfl, tt_mem 535 (by decide +kernel) rfl, tt_mem 537 (by decide +kernel) rfl, tt_mem 539 (by decide +kernel) rfl, tt_mem 540 (by decide +kernel) rfl, tt_mem 538 (by decide +kernel) rfl, tt_mem 527 (by decide +kernel) rfl, by decide +kernel, rfl⟩
/-- an iterator over the list at a, c seen -/
def ItO (M : Mem) (t a c : Nat) : Prop := kd M t = 8 ∧ fR M 227 t = some a ∧ fI M 224 t = nI c ∧ fI M 226 t = fI M 194 a
theorem c_Iinit (l : Launch) (Θ : Glob) (M : Mem) (t a : Nat) (hk : kd M t = 8) (ha : kd M a = 7) : Ct l Θ y_Iinit 2 0 0 [.ref t, .ref a] M (pV fun M1 => M1 = sI (sI (sR M 227 t (some a)) 225 t (-1)) 226 t (fI M 194 a)) := by
  have hf : fR (sI (sR M 227 t (some a)) 225 t (-1)) 227 t = some a := up2_self _ _ _ _
  refine Ct.start (cc := b_Iinit) (nL := 2) (ret := none) [some (.ref t), some (.ref a)] mi_Iinit.1 (by decide +kernel) (by intro v hv; simp at hv; rcases hv with rfl | rfl <;> rfl) (by simp) rfl (fun p e s m args below meth c hC => ?_)
  refine r_aload_n hC 0 d_Iinit_0 rfl rfl ?_
  refine r_aload_n hC 1 d_Iinit_1 rfl rfl ?_
  refine r_putFR hC 7 3 227 fl_I1 rfl rfl rfl (by exact hk) d_Iinit_2 (v := (some a)) rfl rfl ?_
  refine r_aload_n hC 0 d_Iinit_5 rfl rfl ?_
  refine r_objInit hC rfl lk_I7 ob_in ob_co d_Iinit_6 (Nat.le_of_ble_eq_true rfl) (Nat.le_of_ble_eq_true rfl) ?_
  refine r_aload_n hC 0 d_Iinit_9 rfl rfl ?_
  refine r_iconst hC (-1) d_Iinit_10 (by decide) ?_
  refine r_putI hC 7 1 225 fl_I13 rfl (by exact hk) d_Iinit_11 rfl rfl rfl rfl ?_
  refine r_aload_n hC 0 d_Iinit_14 rfl rfl ?_
  refine r_aload_n hC 0 d_Iinit_15 rfl rfl ?_
  refine r_getS hC 7 3 227 fl_I1 (by exact hk) d_Iinit_16 rfl rfl (by exact hf) ?_
  refine r_getI hC 6 2 194 fl_I17 (by exact ha) d_Iinit_19 rfl rfl (by exact rfl) ?_
  refine r_putI hC 7 2 226 fl_I22 rfl (by exact hk) d_Iinit_22 rfl rfl rfl rfl ?_
  exact r_vret hC d_Iinit_25 (Nat.le_refl _) (Nat.le_refl _) ⟨rfl, rfl⟩
theorem c_Aiterator (l : Launch) (Θ : Glob) (M : Mem) (a : Nat) (ha : kd M a = 7) : Ct l Θ y_Aiterator 3 1 4 [.ref a] M (pR fun r M1 => ∃ q, r = some q ∧ kd M q = 0 ∧ Fr (fun _ => False) M M1 ∧ ItO M1 q a 0 ∧ ow M1 q = 12) := by
  refine Ct.start (cc := b_Aiterator) (nL := 1) (ret := (some (.object "java/util/Iterator"))) [some (.ref a)] mi_Aiterator.1 (by decide +kernel) (by intro v hv; simp at hv; rcases hv with rfl <;> rfl) (by simp) rfl (fun p e s m args below meth c hC => ?_)
  refine r_new hC 7 12 rfl cl_A267 nw_7.1 nw_7.2 d_Aiterator_0 (Nat.le_of_ble_eq_true rfl) (Nat.le_of_ble_eq_true rfl) (fun q hq0 hqB => ?_)
  have hqa : a ≠ q := fun z => by rw [z] at ha; omega
  have ha1 : kd (nwO M q 8 12) a = 7 := by show va_up (kd M) q 8 a = 7; rw [va_up_ne _ _ hqa]; exact ha
  refine r_dup hC d_Aiterator_3 rfl ?_
  refine r_aload_n hC 0 d_Aiterator_4 rfl rfl ?_
  refine r_cIv hC [.ref a] rfl (c_Iinit l Θ _ q a (va_up_self _ _ _) ha1) mi_Iinit lk_A269 in_Iinit rfl (Nat.le_of_ble_eq_true rfl) ⟨Nat.le_of_ble_eq_true rfl, Nat.le_of_ble_eq_true rfl⟩ ⟨Nat.le_of_ble_eq_true rfl, Nat.le_of_ble_eq_true rfl⟩ d_Aiterator_5 (fun M2 h2 => ?_)
  have e194 : fI (nwO M q 8 12) 194 a = fI M 194 a := if_neg hqa
  refine r_aret hC (r := some q) rfl d_Aiterator_8 (Nat.le_refl _) (Nat.le_refl _) ⟨_, rfl, q, rfl, hq0, ?_, ?_, ?_⟩
  · rw [h2]
    refine (((nwO_fr hq0).trans (sR_fr _ _ _ _) (fun b hb z => ?_)).trans (sI_fr _ _ _ _) (fun b hb z => ?_)).trans (sI_fr _ _ _ _) (fun b hb z => ?_)
    all_goals (have z : b = q := z; rw [z] at hb; exact hb hq0)
  · rw [h2]
    refine ⟨va_up_self _ _ _, up2_self _ _ _ _, ?_, ?_⟩
    · show up2 (up2 (fI (nwO M q 8 12)) 225 q (-1)) 226 q (fI (nwO M q 8 12) 194 a) 224 q = nI 0
      rw [up2_ne _ _ (by omega), up2_ne _ _ (by omega)]
      exact if_pos rfl
    · show up2 (up2 (fI (nwO M q 8 12)) 225 q (-1)) 226 q (fI (nwO M q 8 12) 194 a) 226 q = up2 (up2 (fI (nwO M q 8 12)) 225 q (-1)) 226 q (fI (nwO M q 8 12) 194 a) 194 a
      rw [up2_self, up2_ne _ _ (by omega), up2_ne _ _ (by omega)]
  · rw [h2]; exact va_up_self _ _ _
theorem c_IhasNext (l : Launch) (Θ : Glob) (M : Mem) (t a cu : Nat) (xs : List Nat) (cap : Nat) (hI : ItO M t a cu) (hL : Lst M a xs cap) (hc : cu ≤ xs.length) : Ct l Θ y_IhasNext 1 0 0 [.ref t] M (pI fun r M1 => r = b2i (decide (cu < xs.length)) ∧ M1 = M) := by
  have hsz := hL.len
  have hlt : xs.length < 65536 := by obtain ⟨-, q, -, -, -, -, h1, h2, -⟩ := hL; omega
  refine Ct.start (cc := b_IhasNext) (nL := 1) (ret := (some .boolean)) [some (.ref t)] mi_IhasNext.1 (by decide +kernel) (by intro v hv; simp at hv; rcases hv with rfl <;> rfl) (by simp) rfl (fun p e s m args below meth c hC => ?_)
  refine r_aload_n hC 0 d_IhasNext_0 rfl rfl ?_
  refine r_getI hC 7 0 224 fl_I25 (by exact hI.1) d_IhasNext_1 rfl rfl (by exact hI.2.2.1) ?_
  refine r_aload_n hC 0 d_IhasNext_4 rfl rfl ?_
  refine r_getS hC 7 3 227 fl_I1 (by exact hI.1) d_IhasNext_5 rfl rfl (by exact hI.2.1) ?_
  refine r_getI hC 6 1 193 fl_I28 (by exact hL.1) d_IhasNext_8 rfl rfl (by exact hsz) ?_
  refine r_icmp_eq hC 18 d_IhasNext_11 (by decide) (fun z => ?_) (fun z => ?_)
  · have := (nI_eq (by omega) (by omega)).mp z
    rw [decide_eq_false (by omega)]
    refine r_iconst hC 0 d_IhasNext_18 (by decide) ?_
    exact r_zret hC d_IhasNext_19 (Or.inl rfl) (Nat.le_refl _) (Nat.le_refl _) ⟨_, rfl, rfl, rfl⟩
  · have : cu ≠ xs.length := fun q => z (by rw [q])
    rw [decide_eq_true (by omega)]
    refine r_iconst hC 1 d_IhasNext_14 (by decide) ?_
    refine r_goto hC 19 d_IhasNext_15 (by decide) ?_
    exact r_zret hC d_IhasNext_19 (Or.inr rfl) (Nat.le_refl _) (Nat.le_refl _) ⟨_, rfl, rfl, rfl⟩
theorem c_Icheck (l : Launch) (Θ : Glob) (M : Mem) (t a cu : Nat) (hI : ItO M t a cu) (ha : kd M a = 7) : Ct l Θ y_IcheckForComodification 1 0 0 [.ref t] M (pV fun M1 => M1 = M) := by
  refine Ct.start (cc := b_IcheckForComodification) (nL := 1) (ret := none) [some (.ref t)] mi_IcheckForComodification.1 (by decide +kernel) (by intro v hv; simp at hv; rcases hv with rfl <;> rfl) (by simp) rfl (fun p e s m args below meth c hC => ?_)
  refine r_aload_n hC 0 d_IcheckForComodification_0 rfl rfl ?_
  refine r_getS hC 7 3 227 fl_I1 (by exact hI.1) d_IcheckForComodification_1 rfl rfl (by exact hI.2.1) ?_
  refine r_getI hC 6 2 194 fl_I17 (by exact ha) d_IcheckForComodification_4 rfl rfl (by exact rfl) ?_
  refine r_aload_n hC 0 d_IcheckForComodification_7 rfl rfl ?_
  refine r_getI hC 7 2 226 fl_I22 (by exact hI.1) d_IcheckForComodification_8 rfl rfl (by exact hI.2.2.2) ?_
  refine r_icmp_eq hC 22 d_IcheckForComodification_11 (by decide) (fun _ => ?_) (fun z => absurd rfl z)
  exact r_vret hC d_IcheckForComodification_22 (Nat.le_refl _) (Nat.le_refl _) ⟨rfl, rfl⟩
theorem c_Inext (l : Launch) (Θ : Glob) (M : Mem) (t a cu : Nat) (xs : List Nat) (cap x : Nat) (hI : ItO M t a cu) (hL : Lst M a xs cap) (hx : xs[cu]? = some x) : Ct l Θ y_Inext 2 0 0 [.ref t] M (pR fun r M1 => r = some x ∧ ItO M1 t a (cu + 1) ∧ Fr (fun b => b = t) M M1) := by
  have hsz := hL.len
  have hlx : cu < xs.length := (List.getElem?_eq_some_iff.mp hx).1
  have ha := hL.1
  have hta : a ≠ t := one_ne ha hI.1 (by omega)
  obtain ⟨-, q, hq, hkq, -, hln, hle, hcap, hel⟩ := hL
  have hak : akd (kd M q) = some 2 := by
    rcases hkq with z | z
    · exact akd_big (by omega)
    · omega
  have hqt : q ≠ t := fun z => by
    have := hI.1
    rw [← z] at this
    rw [this] at hak
    cases hak
  refine Ct.start (cc := b_Inext) (nL := 3) (ret := (some (.object "java/lang/Object"))) [some (.ref t), none, none] mi_Inext.1 (by decide +kernel) (by intro v hv; simp at hv; rcases hv with rfl <;> rfl) (by simp) rfl (fun p e s m args below meth c hC => ?_)
  refine r_aload_n hC 0 d_Inext_0 rfl rfl ?_
  refine r_cVv hC [] rfl (c_Icheck l Θ M t a cu hI ha) mi_IcheckForComodification lk_I31 in_IcheckForComodification (ci := 7) rfl rfl (by exact hI.1) rfl (Nat.le_of_ble_eq_true rfl) ⟨Nat.le_of_ble_eq_true rfl, Nat.le_of_ble_eq_true rfl⟩ ⟨Nat.le_of_ble_eq_true rfl, Nat.le_of_ble_eq_true rfl⟩ d_Inext_1 (fun M1 h1 => ?_)
  subst h1
  refine r_aload_n hC 0 d_Inext_4 rfl rfl ?_
  refine r_getI hC 7 0 224 fl_I25 (by exact hI.1) d_Inext_5 rfl rfl (by exact hI.2.2.1) ?_
  refine r_is1 hC d_Inext_8 ?_
  refine r_iload_n hC 1 d_Inext_9 rfl rfl ?_
  refine r_aload_n hC 0 d_Inext_10 rfl rfl ?_
  refine r_getS hC 7 3 227 fl_I1 (by exact hI.1) d_Inext_11 rfl rfl (by exact hI.2.1) ?_
  refine r_getI hC 6 1 193 fl_I28 (by exact ha) d_Inext_14 rfl rfl (by exact hsz) ?_
  refine r_icmp_lt hC 28 d_Inext_17 (by decide) (fun _ => ?_) (fun z => absurd (nI_lt hlx (by omega)) z)
  refine r_aload_n hC 0 d_Inext_28 rfl rfl ?_
  refine r_getS hC 7 3 227 fl_I1 (by exact hI.1) d_Inext_29 rfl rfl (by exact hI.2.1) ?_
  refine r_getS hC 6 0 192 fl_I37 (by exact ha) d_Inext_32 rfl rfl (by exact hq) ?_
  refine r_as2 hC d_Inext_35 ?_
  refine r_iload_n hC 1 d_Inext_36 rfl rfl ?_
  refine r_aload_n hC 2 d_Inext_37 rfl rfl ?_
  refine r_alen hC (Or.inl ⟨2, hak⟩) d_Inext_38 hln ?_
  refine r_icmp_lt hC 50 d_Inext_39 (by decide) (fun _ => ?_) (fun z => absurd (nI_lt (by omega) (by omega)) z)
  refine r_aload_n hC 0 d_Inext_50 rfl rfl ?_
  refine r_iload_n hC 1 d_Inext_51 rfl rfl ?_
  refine r_iconst hC 1 d_Inext_52 (by decide) ?_
  refine r_iadd hC (nI (cu + 1)) d_Inext_53 (nI_1 _) ?_
  refine r_putI hC 7 0 224 fl_I25 rfl (by exact hI.1) d_Inext_54 rfl rfl rfl rfl ?_
  refine r_aload_n hC 2 d_Inext_57 rfl rfl ?_
  refine r_aload_n hC 0 d_Inext_58 rfl rfl ?_
  refine r_iload_n hC 1 d_Inext_59 rfl rfl ?_
  refine r_dup_x1 hC d_Inext_60 rfl rfl ?_
  refine r_putI hC 7 1 225 fl_I13 rfl (by exact hI.1) d_Inext_61 rfl rfl rfl rfl ?_
  refine r_aaldS hC 2 cu hak (by omega) rfl (by show cu < ln M1 q; omega) (by show ln M1 q < 2 ^ 31; omega) d_Inext_64 (v := x) (by rw [← hx]; exact hel cu hlx) ?_
  refine r_aret hC (r := some x) rfl d_Inext_65 (Nat.le_refl _) (Nat.le_refl _) ⟨_, rfl, rfl, ⟨hI.1, hI.2.1, ?_, ?_⟩, (sI_fr _ _ _ _).trans (sI_fr _ _ _ _) (fun _ _ z => z)⟩
  · show up2 (up2 (fI M1) 224 t (nI (cu + 1))) 225 t (nI cu) 224 t = _
    rw [up2_ne _ _ (by omega), up2_self]
  · exact hI.2.2.2
