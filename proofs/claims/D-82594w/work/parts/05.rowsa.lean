section RA
variable {p : Program} {l : Launch} {e : Env} {R : Room} {s : State} {m : MethodId} {args : Array Value} {below : List Frame} {meth : Method} {c : Code} {Θ : Glob} {M : Mem} {L : List (Option Value)} {cells slots : Nat} {Q : State → Prop}
variable {y : MethodName} {cc : ByteArray} {nL pc : Nat} {ret : Option FieldType} {rest : List Value}
theorem Cx.tys (hC : Cx p s m args meth c Θ y cc nL ret) {t : Nat} (ht : t < 6) : ArrOfT s (Θ.tc t) (aty t) ∧ va_RA s (Θ.tc t) (aty t) := by
  have h := hC.2.2.2.2.2.1.1.2 t (Θ.tc t, aty t)
  match t, ht, h with
  | 0, _, h => exact h rfl
  | 1, _, h => exact h rfl
  | 2, _, h => exact h rfl
  | 3, _, h => exact h rfl
  | 4, _, h => exact h rfl
  | 5, _, h => exact h rfl
  | k + 6, ht, _ => omega
theorem r_iald (hC : Cx p s m args meth c Θ y cc nL ret) {a : Nat} {i : Int32} (n : Nat) (hk : kd M a = 20) (hi : i = nI n) (hn : n < ln M a) (hb : ln M a < 2 ^ 31) (d : decode cc pc = .ok (.iaload, 1)) {v : Int32} (hv : eI M a n = v) (k : Gj p l e R s m args below meth c Θ M L cells slots Q (pc + 1) (.int v :: rest)) : Gj p l e R s m args below meth c Θ M L cells slots Q pc (.int i :: .ref a :: rest) := by
  intro H locs ls hR hL hl
  subst hi
  have hcl : (nI n).toNatClampNeg = n := nI_clamp (by omega)
  refine W.iald hC.1 hC.2.1 (hR.arr a 0 (by rw [hk]; rfl)) ((hC.tys (t := 0) (by omega)).1 _ _) (fun q => by cases q) (by rw [arrV_size]; exact nI_in hn hb) (v := .int v) (by rw [hcl, arrV_read _ _ hn]; show some (Value.int _) = _; rw [hv]) rfl rfl d (k H locs ls hR hL hl)
theorem r_zald (hC : Cx p s m args meth c Θ y cc nL ret) {a : Nat} {i : Int32} (n : Nat) (hk : kd M a = 21) (hi : i = nI n) (hn : n < ln M a) (hb : ln M a < 2 ^ 31) (d : decode cc pc = .ok (.baload, 1)) {v : Int32} (hv : eI M a n = v) (k : Gj p l e R s m args below meth c Θ M L cells slots Q (pc + 1) (.int v :: rest)) : Gj p l e R s m args below meth c Θ M L cells slots Q pc (.int i :: .ref a :: rest) := by
  intro H locs ls hR hL hl
  subst hi
  have hcl : (nI n).toNatClampNeg = n := nI_clamp (by omega)
  refine W.zald hC.1 hC.2.1 (hR.arr a 1 (by rw [hk]; rfl)) ((hC.tys (t := 1) (by omega)).1 _ _) (fun q => by cases q) (by rw [arrV_size]; exact nI_in hn hb) (v := .int v) (by rw [hcl, arrV_read _ _ hn]; show some (Value.int _) = _; rw [hv]) rfl rfl d (k H locs ls hR hL hl)
theorem aty_ref {t : Nat} (h2 : 2 ≤ t) : (aty t).isReference = true ∧ ∃ E, aty t = .object E := by
  match t, h2 with
  | 2, _ => exact ⟨rfl, _, rfl⟩
  | 3, _ => exact ⟨rfl, _, rfl⟩
  | 4, _ => exact ⟨rfl, _, rfl⟩
  | k + 5, _ => exact ⟨rfl, _, rfl⟩
theorem av_ref {t : Nat} (h2 : 2 ≤ t) (a j : Nat) : av M t a j = va_rf (eR M a j) := by
  unfold av
  rw [if_neg (by omega)]
theorem r_aald (hC : Cx p s m args meth c Θ y cc nL ret) {a : Nat} {i : Int32} (t n : Nat) (hk : akd (kd M a) = some t) (h2 : 2 ≤ t) (hi : i = nI n) (hn : n < ln M a) (hb : ln M a < 2 ^ 31) (d : decode cc pc = .ok (.aaload, 1)) {v : Option Nat} (hv : eR M a n = v) (k : Gj p l e R s m args below meth c Θ M L cells slots Q (pc + 1) (va_rf v :: rest)) : Gj p l e R s m args below meth c Θ M L cells slots Q pc (.int i :: .ref a :: rest) := by
  intro H locs ls hR hL hl
  subst hi
  have hcl : (nI n).toNatClampNeg = n := nI_clamp (by omega)
  refine W.aald hC.1 hC.2.1 (hR.arr a t hk) ((hC.tys (akd_ne hk).2.2.2).1 _ _) (aty_ref h2).1 (fun q => by cases q) (by rw [arrV_size]; exact nI_in hn hb) (v := va_rf v) (by rw [hcl, arrV_read _ _ hn, av_ref h2, hv]) rfl rfl d (k H locs ls hR hL hl)
theorem r_aaldS (hC : Cx p s m args meth c Θ y cc nL ret) {a : Nat} {i : Int32} (t n : Nat) (hk : akd (kd M a) = some t) (h2 : 2 ≤ t) (hi : i = nI n) (hn : n < ln M a) (hb : ln M a < 2 ^ 31) (d : decode cc pc = .ok (.aaload, 1)) {v : Nat} (hv : eR M a n = some v) (k : Gj p l e R s m args below meth c Θ M L cells slots Q (pc + 1) (.ref v :: rest)) : Gj p l e R s m args below meth c Θ M L cells slots Q pc (.int i :: .ref a :: rest) :=
  r_aald hC t n hk h2 hi hn hb d hv k
theorem arr_up {M' : Mem} {t a n : Nat} {v : Value} (e1 : av M' t a n = v) (e2 : ∀ j, j ≠ n → av M' t a j = av M t a j) : updV (av M t a) n v = av M' t a := by
  funext j
  by_cases h : j = n
  · subst h; simp [updV, e1]
  · simp [updV, h, e2 j h]
theorem r_iast (hC : Cx p s m args meth c Θ y cc nL ret) {a : Nat} {i v : Int32} (n : Nat) (hk : kd M a = 20) (hi : i = nI n) (hn : n < ln M a) (hb : ln M a < 2 ^ 31) (d : decode cc pc = .ok (.iastore, 1)) (k : Gj p l e R s m args below meth c Θ (sEI M a n v) L cells slots Q (pc + 1) rest) : Gj p l e R s m args below meth c Θ M L cells slots Q pc (.int v :: .int i :: .ref a :: rest) := by
  intro H locs ls hR hL hl
  subst hi
  have hcl : (nI n).toNatClampNeg = n := nI_clamp (by omega)
  have hka : akd (kd M a) = some 0 := by rw [hk]; rfl
  refine W.iast hC.1 hC.2.1 (hR.arr a 0 hka) ((hC.tys (t := 0) (by omega)).1 _ _) (fun q => by cases q) (by rw [arrV_size]; exact nI_in hn hb) rfl rfl d fun H' h1 h2 h3 => ?_
  rw [hcl, arrV_store, arr_up (M' := sEI M a n v) (by show Value.int (up2 (eI M) a n v a n) = _; rw [up2_self]) (fun j hj => by show Value.int (up2 (eI M) a n v a j) = Value.int (eI M a j); rw [up2_ne _ _ (fun q => hj q.2)])] at h1
  exact k H' _ ls (hR.setA hka h2 h3 rfl rfl rfl rfl (fun b j hb => up2_ne _ _ (fun q => hb q.1)) (fun _ _ _ => rfl) h1) (k2_locs hL (hR.mine (by omega) (by omega))) hl
theorem bool_nar {v : Int32} (h : v = 0 ∨ v = 1) : narrow .boolean (.int v) = .int v := by
  rcases h with rfl | rfl <;> rfl
theorem r_zast (hC : Cx p s m args meth c Θ y cc nL ret) {a : Nat} {i v : Int32} (n : Nat) (hk : kd M a = 21) (hi : i = nI n) (hn : n < ln M a) (hb : ln M a < 2 ^ 31) (hv : v = 0 ∨ v = 1) (d : decode cc pc = .ok (.bastore, 1)) (k : Gj p l e R s m args below meth c Θ (sEI M a n v) L cells slots Q (pc + 1) rest) : Gj p l e R s m args below meth c Θ M L cells slots Q pc (.int v :: .int i :: .ref a :: rest) := by
  intro H locs ls hR hL hl
  subst hi
  have hcl : (nI n).toNatClampNeg = n := nI_clamp (by omega)
  have hka : akd (kd M a) = some 1 := by rw [hk]; rfl
  refine W.zast hC.1 hC.2.1 (hR.arr a 1 hka) ((hC.tys (t := 1) (by omega)).1 _ _) (fun q => by cases q) (by rw [arrV_size]; exact nI_in hn hb) rfl rfl d fun H' h1 h2 h3 => ?_
  rw [bool_nar hv, hcl, arrV_store, arr_up (M' := sEI M a n v) (by show Value.int (up2 (eI M) a n v a n) = _; rw [up2_self]) (fun j hj => by show Value.int (up2 (eI M) a n v a j) = Value.int (eI M a j); rw [up2_ne _ _ (fun q => hj q.2)])] at h1
  exact k H' _ ls (hR.setA hka h2 h3 rfl rfl rfl rfl (fun b j hb => up2_ne _ _ (fun q => hb q.1)) (fun _ _ _ => rfl) h1) (k2_locs hL (hR.mine (by omega) (by omega))) hl
/-- an object of number ci may lie in an array of kind t -/
def Asg (t ci : Nat) : Prop := ∃ (r : vw_C) (E : String), classes[ci]? = some r ∧ aty t = .object E ∧ (E = r.1 ∨ Cond.castable r.1 E ∈ TT)
theorem Asg.any {t ci a : Nat} {H : Heap} {E : String} (h : Asg t ci) (hC : Cx p s m args meth c Θ y cc nL ret) (hR : Rep Θ M H) (hk : kd M a = ci + 1) (hE : aty t = .object E) : va_Any E s H a := by
  obtain ⟨r, E', hc, hE', h⟩ := h
  cases hE.symm.trans hE'
  obtain ⟨cell, h1, h2, h3⟩ := hR.recv hC.2.2.2.2.2.1 hk hc
  obtain ⟨kC, hkC, -⟩ := Vm.findClass_spec h3
  refine ⟨cell, h1, h2, ⟨kC, hkC⟩, fun comp hcomp => ?_⟩
  rcases h with h | h
  · subst h
    exact vb_asgS comp _ hcomp h3
  · exact vb_asgC (va_Nw.of rfl (hC.2.2.2.2.1 _ h)) comp _ hcomp h3
theorem r_aast (hC : Cx p s m args meth c Θ y cc nL ret) {a v : Nat} {i : Int32} (t ci n : Nat) (hA : Asg t ci) (hkv : kd M v = ci + 1) (hk : akd (kd M a) = some t) (h2 : 2 ≤ t) (hi : i = nI n) (hn : n < ln M a) (hb : ln M a < 2 ^ 31) (d : decode cc pc = .ok (.aastore, 1)) (k : Gj p l e R s m args below meth c Θ (sER M a n (some v)) L cells slots Q (pc + 1) rest) : Gj p l e R s m args below meth c Θ M L cells slots Q pc (.ref v :: .int i :: .ref a :: rest) := by
  intro H locs ls hR hL hl
  subst hi
  have hcl : (nI n).toNatClampNeg = n := nI_clamp (by omega)
  obtain ⟨E, hE⟩ := (aty_ref h2).2
  obtain ⟨cellV, g1, g3, ⟨kC, hkC⟩, hasg⟩ := hA.any hC hR hkv hE
  have hra := (hC.tys (akd_ne hk).2.2.2).2
  rw [hE] at hra
  obtain ⟨kA, comp, k1, k2, k3, -⟩ := hra
  obtain ⟨kE, hkE, -⟩ := Vm.findClass_spec k3
  have hz : 0 ≤ (nI n).toInt := by rw [nI_toInt (by omega)]; omega
  refine W.aast hC.1 hC.2.1 (hR.arr a t hk) (fun q h => by cases h) (fun h => by cases h) k1 k2 rfl hkE ⟨nI_pos (by omega), by rw [hcl, arrV_size]; exact hn⟩ g1 (fun q h => by rw [h] at g3; cases g3) hkC (hasg _ k3) rfl rfl d fun H' h1 h4 h3 => ?_
  rw [hcl, arrV_store, arr_up (M' := sER M a n (some v)) (by rw [av_ref h2]; show va_rf (up2 (eR M) a n (some v) a n) = _; rw [up2_self]; rfl) (fun j hj => by rw [av_ref h2, av_ref h2]; show va_rf (up2 (eR M) a n (some v) a j) = va_rf (eR M a j); rw [up2_ne _ _ (fun q => hj q.2)])] at h1
  exact k H' _ ls (hR.setA hk h4 h3 rfl rfl rfl rfl (fun _ _ _ => rfl) (fun b j hb => up2_ne _ _ (fun q => hb q.1)) h1) (k2_locs hL (hR.mine (akd_ne hk).1 (akd_ne hk).2.1)) hl
theorem r_aastN (hC : Cx p s m args meth c Θ y cc nL ret) {a : Nat} {i : Int32} (t n : Nat) (hk : akd (kd M a) = some t) (h2 : 2 ≤ t) (hi : i = nI n) (hn : n < ln M a) (hb : ln M a < 2 ^ 31) (d : decode cc pc = .ok (.aastore, 1)) (k : Gj p l e R s m args below meth c Θ (sER M a n none) L cells slots Q (pc + 1) rest) : Gj p l e R s m args below meth c Θ M L cells slots Q pc (.null :: .int i :: .ref a :: rest) := by
  intro H locs ls hR hL hl
  subst hi
  have hcl : (nI n).toNatClampNeg = n := nI_clamp (by omega)
  obtain ⟨E, hE⟩ := (aty_ref h2).2
  have hra := (hC.tys (akd_ne hk).2.2.2).1
  rw [hE] at hra
  refine va_WaastN (C := E) hC.1 hC.2.1 (hR.arr a t hk) (hra _ _) (fun h => by cases h) (by rw [arrV_size]; exact nI_in hn hb) rfl rfl d fun H' h1 h4 h3 => ?_
  rw [hcl, arrV_store, arr_up (M' := sER M a n none) (by rw [av_ref h2]; show va_rf (up2 (eR M) a n none a n) = _; rw [up2_self]; rfl) (fun j hj => by rw [av_ref h2, av_ref h2]; show va_rf (up2 (eR M) a n none a j) = va_rf (eR M a j); rw [up2_ne _ _ (fun q => hj q.2)])] at h1
  exact k H' _ ls (hR.setA hk h4 h3 rfl rfl rfl rfl (fun _ _ _ => rfl) (fun b j hb => up2_ne _ _ (fun q => hb q.1)) h1) (k2_locs hL (hR.mine (akd_ne hk).1 (akd_ne hk).2.1)) hl
theorem r_alen (hC : Cx p s m args meth c Θ y cc nL ret) {a : Nat} (hk : (∃ t, akd (kd M a) = some t) ∨ kd M a = 30) (d : decode cc pc = .ok (.arraylength, 1)) {n : Nat} (hn : ln M a = n) (k : Gj p l e R s m args below meth c Θ M L cells slots Q (pc + 1) (.int (nI n) :: rest)) : Gj p l e R s m args below meth c Θ M L cells slots Q pc (.ref a :: rest) := by
  intro H locs ls hR hL hl
  subst hn
  rcases hk with ⟨t, hk⟩ | hk
  · exact W.alen (n := nI (ln M a)) hC.1 hC.2.1 (hR.arr a t hk) ((hC.tys (akd_ne hk).2.2.2).1 _ _) (by rw [arrV_size]; rfl) rfl rfl d (k H locs ls hR hL hl)
  · obtain ⟨ha, hz⟩ := hR.em.2 a hk
    obtain ⟨cell, t1, t2, -, -, t5, -⟩ := hC.2.2.2.2.2.1.2.2.1
    subst ha
    exact W.alen (n := nI (ln M Θ.E)) hC.1 hC.2.1 (by rw [hR.low _ (Array.getElem?_eq_some_iff.mp t1).1]; exact t1) t2 (by rw [t5, hz]; rfl) rfl rfl d (k H locs ls hR hL hl)
/-! fresh cells -/
theorem r_new (hC : Cx p s m args meth c Θ y cc nL ret) (ci o : Nat) {idx : Nat} {r : vw_C} (hc : classes[ci]? = some r) (h1 : Cond.classLink y.cls idx r.1 ∈ TT) (h2 : Cond.instantiable r.1 r.2.2 ∈ TT) (h3 : Cond.initialized r.1 ∈ TT) (d : decode cc pc = .ok (.new idx, 3)) (hcl : cells + 1 ≤ R.cells) (hsl : slots + r.2.2 ≤ R.slots)
    (k : ∀ q : Nat, kd M q = 0 → Θ.B.size ≤ q → Gj p l e R s m args below meth c Θ (nwO M q (ci + 1) o) L (cells + 1) (slots + r.2.2) Q (pc + 3) (.ref q :: rest)) : Gj p l e R s m args below meth c Θ M L cells slots Q pc rest := by
  intro H locs ls hR hL hl
  have ht := hC.2.2.2.2.1
  have hKn := hC.2.2.2.2.2.1.1.1 ci r hc
  have hlt := cls_lt hc
  refine W.newcK hC.1 hC.2.1 hC.2.2.2.1 (ht _ h1) (ht _ h2) (ht _ h3) rfl d hcl hsl hKn.2.1 rfl fun H1 kC hkC e1 z1 o1 => ?_
  refine k H.size hR.fresh hR.sz H1 locs ls ?_ hL hl
  refine hR.new (q := H.size) (k := ci + 1) rfl (by omega) (by omega) z1 o1 rfl (fun _ _ => rfl) (fun g b hb => if_neg hb) (fun g b hb => if_neg hb) (fun _ _ _ => rfl) (fun _ _ _ => rfl) (fun cj r2 hcj hc2 => ?_) (fun t q => ?_)
  · have : cj = ci := by omega
    subst this
    cases hc.symm.trans hc2
    refine (u_born (fty cj) ht (cls_ws cj r hc) hKn hkC e1 (cls_ty cj r hc)).to fun j hj => ?_
    show defaultValue (fty cj j) = _
    rw [cls_df cj r hc j hj]
    show dfv _ = (if _ then va_rf (if H.size = H.size then none else _) else Value.int (if H.size = H.size then 0 else _))
    rw [if_pos rfl, if_pos rfl]
    rfl
  · rw [akd_obj hlt] at q
    cases q
theorem tc_uniq {t : Nat} {cA : ClassId} (hC : Cx p s m args meth c Θ y cc nL ret) (ht : t < 6) (h : s.vm.findClass ("[" ++ (aty t).toString) = some cA) : cA = Θ.tc t := by
  have h2 := (hC.tys ht).2
  match t, ht, h, h2 with
  | 0, _, h, h2 => exact Option.some.inj (h.symm.trans h2)
  | 1, _, h, h2 => exact Option.some.inj (h.symm.trans h2)
  | 2, _, h, ⟨_, _, _, _, _, h2⟩ => exact Option.some.inj (h.symm.trans h2)
  | 3, _, h, ⟨_, _, _, _, _, h2⟩ => exact Option.some.inj (h.symm.trans h2)
  | 4, _, h, ⟨_, _, _, _, _, h2⟩ => exact Option.some.inj (h.symm.trans h2)
  | 5, _, h, ⟨_, _, _, _, _, h2⟩ => exact Option.some.inj (h.symm.trans h2)
  | k + 6, ht, _, _ => omega
theorem newa_rep {H H1 : Heap} {t N kk o : Nat} (hR : Rep Θ M H) (hk : akd kk = some t) (h2 : t < 2) (e1 : H1[H.size]? = some (arrV (Θ.tc t) N (fun _ => dfv (aty t)))) (z1 : H1.size = H.size + 1) (o1 : ∀ b, b < H.size → H1[b]? = H[b]?) : Rep Θ (nwA M H.size kk N o) H1 := by
  have hne := akd_ne hk
  refine hR.new (q := H.size) (k := kk) rfl hne.1 hne.2.1 z1 o1 rfl (fun b hb => va_up_ne _ _ hb) (fun _ _ _ => rfl) (fun _ _ _ => rfl) (fun b j hb => by show va_up (eI M) H.size _ b j = _; rw [va_up_ne _ _ hb]) (fun _ _ _ => rfl) (fun ci r hci hc => ?_) (fun t2 h2' => ?_)
  · have := cls_lt hc
    omega
  · cases hk.symm.trans h2'
    rw [e1]
    show some (arrV _ N _) = some (arrV _ (va_up (ln M) H.size N H.size) _)
    rw [va_up_self]
    congr 2
    funext j
    unfold av
    show dfv (aty t) = if t < 2 then Value.int (va_up (eI M) H.size (fun _ => 0) H.size j) else va_rf (eR M H.size j)
    rw [va_up_self, if_pos h2]
    match t, h2 with
    | 0, _ => rfl
    | 1, _ => rfl
    | k + 2, h => omega
theorem newr_rep {H H1 : Heap} {t N kk o : Nat} (hR : Rep Θ M H) (hk : akd kk = some t) (h2 : 2 ≤ t) (e1 : H1[H.size]? = some (arrV (Θ.tc t) N (fun _ => .null))) (z1 : H1.size = H.size + 1) (o1 : ∀ b, b < H.size → H1[b]? = H[b]?) : Rep Θ (nwR M H.size kk N o) H1 := by
  have hne := akd_ne hk
  refine hR.new (q := H.size) (k := kk) rfl hne.1 hne.2.1 z1 o1 rfl (fun b hb => va_up_ne _ _ hb) (fun _ _ _ => rfl) (fun _ _ _ => rfl) (fun _ _ _ => rfl) (fun b j hb => by show va_up (eR M) H.size _ b j = _; rw [va_up_ne _ _ hb]) (fun ci r hci hc => ?_) (fun t2 h2' => ?_)
  · have := cls_lt hc
    omega
  · cases hk.symm.trans h2'
    rw [e1]
    show some (arrV _ N _) = some (arrV _ (va_up (ln M) H.size N H.size) _)
    rw [va_up_self]
    congr 2
    funext j
    unfold av
    show Value.null = if t < 2 then Value.int (eI M H.size j) else va_rf (va_up (eR M) H.size (fun _ => none) H.size j)
    rw [va_up_self, if_neg (by omega)]
    rfl
theorem r_newaI (hC : Cx p s m args meth c Θ y cc nL ret) (N o : Nat) {n : Int32} (hw : Cond.arrayClass .int ∈ TT) (hn : n = nI N) (hN : N < 1000000) (d : decode cc pc = .ok (.newarray .int, 2)) (hcl : cells + 1 ≤ R.cells) (hsl : slots + N ≤ R.slots)
    (k : ∀ q : Nat, kd M q = 0 → Θ.B.size ≤ q → Gj p l e R s m args below meth c Θ (nwA M q 20 N o) L (cells + 1) (slots + N) Q (pc + 2) (.ref q :: rest)) : Gj p l e R s m args below meth c Θ M L cells slots Q pc (.int n :: rest) := by
  intro H locs ls hR hL hl
  subst hn
  refine va_newaK (atype := .int) (N := N) hC.1 hC.2.1 (hC.2.2.2.2.1 _ hw) rfl d rfl (nI_pos (by omega)) (nI_clamp (by omega)) (by show N * 4 ≤ _; omega) hcl hsl rfl fun H1 cA e1 z1 o1 hAr hNm => ?_
  have : cA = Θ.tc 0 := tc_uniq hC (by omega) hNm
  subst this
  exact k H.size hR.fresh hR.sz H1 locs ls (newa_rep hR (t := 0) rfl (by omega) e1 z1 o1) hL hl
theorem r_newaZ (hC : Cx p s m args meth c Θ y cc nL ret) (N o : Nat) {n : Int32} (hw : Cond.arrayClass .boolean ∈ TT) (hn : n = nI N) (hN : N < 1000000) (d : decode cc pc = .ok (.newarray .boolean, 2)) (hcl : cells + 1 ≤ R.cells) (hsl : slots + N ≤ R.slots)
    (k : ∀ q : Nat, kd M q = 0 → Θ.B.size ≤ q → Gj p l e R s m args below meth c Θ (nwA M q 21 N o) L (cells + 1) (slots + N) Q (pc + 2) (.ref q :: rest)) : Gj p l e R s m args below meth c Θ M L cells slots Q pc (.int n :: rest) := by
  intro H locs ls hR hL hl
  subst hn
  refine va_newaK (atype := .boolean) (N := N) hC.1 hC.2.1 (hC.2.2.2.2.1 _ hw) rfl d rfl (nI_pos (by omega)) (nI_clamp (by omega)) (by show N * 1 ≤ _; omega) hcl hsl rfl fun H1 cA e1 z1 o1 hAr hNm => ?_
  have : cA = Θ.tc 1 := tc_uniq hC (by omega) hNm
  subst this
  exact k H.size hR.fresh hR.sz H1 locs ls (newa_rep hR (t := 1) rfl (by omega) e1 z1 o1) hL hl
theorem r_anew (hC : Cx p s m args meth c Θ y cc nL ret) (t kk N o : Nat) {n : Int32} {idx : Nat} {E : String} (hE : aty t = .object E) (hk : akd kk = some t) (ht2 : 2 ≤ t) (h1 : Cond.classLink y.cls idx E ∈ TT) (h2 : Cond.arrayOver (.object E) ∈ TT) (hn : n = nI N) (hN : N < 1000000) (d : decode cc pc = .ok (.anewarray idx, 3)) (hcl : cells + 1 ≤ R.cells) (hsl : slots + N ≤ R.slots)
    (k : ∀ q : Nat, kd M q = 0 → Θ.B.size ≤ q → Gj p l e R s m args below meth c Θ (nwR M q kk N o) L (cells + 1) (slots + N) Q (pc + 3) (.ref q :: rest)) : Gj p l e R s m args below meth c Θ M L cells slots Q pc (.int n :: rest) := by
  intro H locs ls hR hL hl
  subst hn
  have hcm : (nI N).toNatClampNeg = N := nI_clamp (by omega)
  have ht := hC.2.2.2.2.1
  refine W.anew hC.1 hC.2.1 hC.2.2.2.1 (ht _ h1) (ht _ h2) rfl d rfl (nI_pos (by omega)) (by rw [hcm]; omega) hcl (by rw [hcm]; exact hsl) fun cA kA comp f1 f2 f3 f4 => ?_
  have : cA = Θ.tc t := tc_uniq hC (akd_ne hk).2.2.2 (by rw [hE]; exact f1)
  subst this
  rw [hcm]
  refine k H.size hR.fresh hR.sz _ locs ls (newr_rep hR hk ht2 ?_ (Array.size_push _) (fun b hb => by rw [Array.getElem?_push, if_neg (Nat.ne_of_lt hb)])) hL hl
  rw [Array.getElem?_push_size, arrV_new]
/-! the library's static, casts, mirrors, constants -/
theorem r_gets (hC : Cx p s m args meth c Θ y cc nL ret) {idx : Nat} (h1 : Cond.fieldLink y.cls idx "java/util/ArrayList" "DEFAULTCAPACITY_EMPTY_ELEMENTDATA" "[Ljava/lang/Object;" ∈ TT) (d : decode cc pc = .ok (.getstatic idx, 3)) (k : Gj p l e R s m args below meth c Θ M L cells slots Q (pc + 3) (.ref Θ.E :: rest)) : Gj p l e R s m args below meth c Θ M L cells slots Q pc rest := by
  intro H locs ls hR hL hl
  obtain ⟨cf, kf, fi, f, a, cell, z1, z2, z3, z4, z5, z6, z7, z8⟩ := hC.2.2.2.2.2.1.2.1
  exact W.gets hC.1 hC.2.1 hC.2.2.2.1 (hC.2.2.2.2.1 _ h1) z1 z2 z3 z4 (by rw [hR.low a (Array.getElem?_eq_some_iff.mp z5).1]; exact z5) (fun e => by rw [e] at z6; cases z6) z7 rfl d (k H locs ls hR hL hl)
theorem r_cast (hC : Cx p s m args meth c Θ y cc nL ret) (ci : Nat) {idx a : Nat} {r : vw_C} {nm : String} (hc : classes[ci]? = some r) (hk : kd M a = ci + 1) (h1 : Cond.classLink y.cls idx nm ∈ TT) (h2 : Cond.castable r.1 nm ∈ TT) (d : decode cc pc = .ok (.checkcast idx, 3)) (k : Gj p l e R s m args below meth c Θ M L cells slots Q (pc + 3) (.ref a :: rest)) : Gj p l e R s m args below meth c Θ M L cells slots Q pc (.ref a :: rest) := by
  intro H locs ls hR hL hl
  exact va_castY hC.1 hC.2.1 hC.2.2.2.1 (hC.2.2.2.2.1 _ h1) (va_Nw.of rfl (hC.2.2.2.2.1 _ h2)) (hR.recv hC.2.2.2.2.2.1 hk hc) d (k H locs ls hR hL hl)
theorem r_ldcM (hC : Cx p s m args meth c Θ y cc nL ret) {idx : Nat} (h1 : Cond.classLink y.cls idx "[Ljava/lang/Object;" ∈ TT) (d : decode cc pc = .ok (.ldc idx, 2)) (k : Gj p l e R s m args below meth c Θ M L cells slots Q (pc + 2) (.ref Θ.mi :: rest)) : Gj p l e R s m args below meth c Θ M L cells slots Q pc rest :=
  fun H locs ls hR hL hl => va_ldcM hC.1 hC.2.1 hC.2.2.2.1 (hC.2.2.2.2.1 _ h1) hC.2.2.2.2.2.1.2.2.2 d (k H locs ls hR hL hl)
theorem r_ldcI (hC : Cx p s m args meth c Θ y cc nL ret) {idx : Nat} (v : Int32) (h1 : Cond.constant y.cls idx v ∈ TT) (d : decode cc pc = .ok (.ldc idx, 2)) (k : Gj p l e R s m args below meth c Θ M L cells slots Q (pc + 2) (.int v :: rest)) : Gj p l e R s m args below meth c Θ M L cells slots Q pc rest :=
  fun H locs ls hR hL hl => W.ldc hC.1 hC.2.1 hC.2.2.2.1 (hC.2.2.2.2.1 _ h1) rfl d (k H locs ls hR hL hl)
end RA
