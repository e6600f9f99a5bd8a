/-! CONTRACTS: from memory M the method y, called with av, returns, and 'post' holds of its answer and the memory then; d: how deep it calls; mc, ms: the cells and slots that it may make -/
def rmo (d mc ms : Nat) : Room := { frames := d, cells := mc, slots := ms, locals := 32 * d }
def Pv (Θ : Glob) (av : List Value) (M : Mem) : Array Value → State → Prop := fun v U => v = av.toArray ∧ Rep Θ M U.heap ∧ KK Θ U
def Qv (Θ : Glob) (post : Option Value → Mem → Prop) : Array Value → State → Outcome → State → Prop := fun _ _ o t => ∃ (v : Option Value) (M' : Mem), o = .returned v ∧ post v M' ∧ Rep Θ M' t.heap
def Ct (l : Launch) (Θ : Glob) (y : MethodName) (d mc ms : Nat) (av : List Value) (M : Mem) (post : Option Value → Mem → Prop) : Prop := Met l y TT (rmo d mc ms) (Pv Θ av M) (Qv Θ post) mc ms (fun q => Θ.B.size ≤ q)
def pI (P : Int32 → Mem → Prop) : Option Value → Mem → Prop := fun v M' => ∃ r : Int32, v = some (.int r) ∧ P r M'
def pV (P : Mem → Prop) : Option Value → Mem → Prop := fun v M' => v = none ∧ P M'
def pR (P : Option Nat → Mem → Prop) : Option Value → Mem → Prop := fun v M' => ∃ r : Option Nat, v = some (va_rf r) ∧ P r M'
theorem Pv.blind {Θ : Glob} {av : List Value} {M : Mem} : FrameBlind (Pv Θ av M) := fun a U g mk q => ⟨q.1, q.2.1, q.2.2.moved (u := U) (U := U.calling g mk a) (Vm.Alike.refl U.vm)⟩
/-- a method's facts: its code among the words, what else a call of it needs -/
def Mi (y : MethodName) (cc : ByteArray) (nL : Nat) (ret : Option FieldType) (n : Nat) : Prop := Cond.code y cc nL ret ∈ TT ∧ Cond.initialized y.cls ∈ TT ∧ (y.cls ≠ "java/lang/invoke/MethodHandle" ∧ y.cls ≠ "java/lang/invoke/VarHandle") ∧ (parseMethodDescriptor y.desc).map (fun d => d.parameters.length) = some n
abbrev Fn (below : List Frame) (args : Array Value) (s : State) (Θ : Glob) (mc ms : Nat) (post : Option Value → Mem → Prop) : State → Prop := MQ below (Qv Θ post) args s mc ms (fun q => Θ.B.size ≤ q)
theorem Ct.start {l : Launch} {Θ : Glob} {y : MethodName} {d mc ms : Nat} {av : List Value} {M : Mem} {post : Option Value → Mem → Prop} {cc : ByteArray} {nL : Nat} {ret : Option FieldType} (L : List (Option Value))
    (hcode : Cond.code y cc nL ret ∈ TT) (hy : plainFor y = true) (hcat : ∀ v ∈ av, v.category = 1) (hlen : av.length ≤ nL) (hL : av.map some ++ List.replicate (nL - av.length) none = L)
    (body : ∀ (p : Program) (e : Env) (s : State) (m : MethodId) (args : Array Value) (below : List Frame) (meth : Method) (c : Code), Cx p s m args meth c Θ y cc nL ret → Gj p l e (rmo d mc ms) s m args below meth c Θ M L 0 0 (Fn below args s Θ mc ms post) 0 []) : Ct l Θ y d mc ms av M post := by
  unfold Ct Met
  refine MetFree.of_bodySF (code := cc) (maxLocals := nL) (ret := ret) hy ?_ ?_
  · intro args s m h hn
    obtain ⟨meth, c, h1, h2, h3, h4, h5, h6, -, -⟩ := Cond.code_spec hn (atoms_spec (ws := TT) h _ hcode)
    exact ⟨meth, c, h1, h2, h3, h4, h5, h6⟩
  · intro p e s m args below meth c s₁ B hml hP _
    have hh0 : s₁.heap = s.heap := by rw [B.state]; rfl
    obtain ⟨rfl, hR, hK⟩ := hP
    have hC : Cx p s m av.toArray meth c Θ y cc nL ret := ⟨B.exec, B.bytes, hml, findClass_of_methodNamed B.named, atoms_spec (ws := TT) B.pre, hK, B.returns, B.notSynchronized, (name_of_methodNamed B.named B.method).1⟩
    have hG := body p e s m av.toArray below meth c hC
    have e1 := entry_eq m av hcat nL
    have e2 := lg_entry_eq m av nL
    have e3 : (av.map Slot.val ++ List.replicate (nL - av.length) Slot.unset).toArray = (lg_sl av ++ List.replicate (nL - (lg_sl av).length) Slot.unset).toArray := by
      have := e1.symm.trans e2
      exact congrArg JFrame.locals this
    have e4 : (lg_sl av).length ≤ nL := by
      have h := congrArg Array.size e3
      simp at h
      omega
    have hwf := (lv_entry av (n := nL) e4).2.1
    rw [← e3] at hwf
    have hls : hasL (av.map Slot.val ++ List.replicate (nL - av.length) Slot.unset).toArray L := by
      subst hL
      refine ⟨by simp, hwf, fun i v hi => ?_⟩
      by_cases hlt : i < av.length
      · rw [List.getElem?_append_left (by simpa using hlt), List.getElem?_map] at hi
        cases hav : av[i]? with
        | none => rw [hav] at hi; cases hi
        | some w =>
          rw [hav] at hi
          cases hi
          refine ⟨?_, hcat _ (List.mem_of_getElem? hav)⟩
          rw [List.getElem?_toArray, List.getElem?_append_left (by simpa using hlt), List.getElem?_map, hav]
          rfl
      · rw [List.getElem?_append_right (by simpa using Nat.not_lt.mp hlt)] at hi
        have := List.mem_of_getElem? hi
        rw [List.mem_replicate] at this
        cases this.2
    have hW := hG s.heap [] _ hR (fun q h => by cases h) hls
    rw [← e1] at hW
    obtain ⟨t, a1, o, b1, b2, b3⟩ := hW s₁ hh0 (Stand.of_body B)
    exact ⟨t, o, a1, b1, b2, ⟨b3.1, b3.2⟩⟩
section RC
variable {p : Program} {l : Launch} {e : Env} {R : Room} {s : State} {m : MethodId} {args : Array Value} {below : List Frame} {meth : Method} {c : Code} {Θ : Glob} {M : Mem} {L : List (Option Value)} {cells slots : Nat} {Q : State → Prop}
variable {y : MethodName} {cc : ByteArray} {nL pc : Nat} {ret : Option FieldType} {rest : List Value} {post : Option Value → Mem → Prop} {mc ms : Nat}
/-! the end -/
theorem r_iret (hC : Cx p s m args meth c Θ y cc nL (some .int)) {v : Int32} (d : decode cc pc = .ok (.ireturn, 1)) (hc : cells ≤ mc) (hs : slots ≤ ms) (hp : post (some (.int v)) M) : Gj p l e R s m args below meth c Θ M L cells slots (Fn below args s Θ mc ms post) pc [.int v] :=
  fun H locs ls hR hL hl => W.widen hc hs (W.iret hC.1 hC.2.1 hC.2.2.2.2.2.2.1 (fun t ht hW => ⟨_, M, rfl, hp, by rw [ht]; exact hR⟩) hL d (hlocks := hC.2.2.2.2.2.2.2.1))
theorem r_zret (hC : Cx p s m args meth c Θ y cc nL (some .boolean)) {v : Int32} (d : decode cc pc = .ok (.ireturn, 1)) (hv : v = 0 ∨ v = 1) (hc : cells ≤ mc) (hs : slots ≤ ms) (hp : post (some (.int v)) M) : Gj p l e R s m args below meth c Θ M L cells slots (Fn below args s Θ mc ms post) pc [.int v] :=
  fun H locs ls hR hL hl => W.widen hc hs (W.zret hC.1 hC.2.1 hC.2.2.2.2.2.2.1 (bool_nar hv) (fun t ht hW => ⟨_, M, rfl, hp, by rw [ht]; exact hR⟩) hL d (hlocks := hC.2.2.2.2.2.2.2.1))
theorem r_vret (hC : Cx p s m args meth c Θ y cc nL none) (d : decode cc pc = .ok (.return_, 1)) (hc : cells ≤ mc) (hs : slots ≤ ms) (hp : post none M) : Gj p l e R s m args below meth c Θ M L cells slots (Fn below args s Θ mc ms post) pc [] :=
  fun H locs ls hR hL hl => W.widen hc hs (W.vret hC.1 hC.2.1 hC.2.2.2.2.2.2.1 (fun t ht hW => ⟨_, M, rfl, hp, by rw [ht]; exact hR⟩) hL d (hlocks := hC.2.2.2.2.2.2.2.1))
theorem r_aret {rt : FieldType} (hC : Cx p s m args meth c Θ y cc nL (some rt)) {r : Option Nat} (hrt : isR rt = true) (d : decode cc pc = .ok (.areturn, 1)) (hc : cells ≤ mc) (hs : slots ≤ ms) (hp : post (some (va_rf r)) M) : Gj p l e R s m args below meth c Θ M L cells slots (Fn below args s Θ mc ms post) pc [va_rf r] := by
  have h1 : (∃ n, rt = .object n) ∨ ∃ t, rt = .array t := by
    cases rt <;> first | (simp [isR] at hrt; done) | exact Or.inl ⟨_, rfl⟩ | exact Or.inr ⟨_, rfl⟩
  have h2 : va_rf r = .null ∨ ∃ a, va_rf r = .ref a := by cases r <;> simp [va_rf]
  exact fun H locs ls hR hL hl => W.widen hc hs (W.aret hC.1 hC.2.1 hC.2.2.2.2.2.2.1 h1 h2 (fun t ht hW => ⟨_, M, rfl, hp, by rw [ht]; exact hR⟩) hL d (hlocks := hC.2.2.2.2.2.2.2.1))
/-! calls -/
theorem run_go {st : List Value} {a : Array Value} (hr : ∀ (H : Heap) (locs : List Loc) (ls : Array Slot), Rep Θ M H → hasL ls L → va_Run p l e R s m args below meth c H locs cells slots mc ms (F0 m pc ls st) rest (Qv Θ post a) (fun q => Θ.B.size ≤ q))
    (k : ∀ (v : Option Value) (M' : Mem), post v M' → Gj p l e R s m args below meth c Θ M' L (cells + mc) (slots + ms) Q (pc + 3) (v.toList ++ rest)) : Gj p l e R s m args below meth c Θ M L cells slots Q pc st := by
  intro H locs ls hR hL hl T hT X
  obtain ⟨v, st₀, t, T', L2, h0, X', hL2, e1, e2, ⟨v2, M', hv, hp, hR'⟩, hgo⟩ := hr H locs ls hR hl T hT X
  cases hv
  obtain ⟨t2, a1, b1⟩ := k v M' hp t.heap (locs ++ L2) ls hR' (fun q hq => by
    rcases List.mem_append.mp hq with h | h
    · exact hL q h
    · exact hL2 q h) hl T' e1 X'
  exact ⟨t2, hgo t2 a1, b1⟩
theorem callB_tt {y2 : MethodName} {c2 : ByteArray} {n2 d2 n idx : Nat} {ret2 : Option FieldType} (hC : Cx p s m args meth c Θ y cc nL ret) (hM : Mi y2 c2 n2 ret2 n) (hl : Cond.methodLink y.cls idx y2 ∈ TT) (hR : d2 + 1 ≤ R.frames ∧ 8 + (n2 + 11) + 32 * d2 ≤ R.locals) : CallB R s args y.cls idx y2 c2 n2 ret2 TT (rmo d2 mc ms) mc ms n := by
  have ht := hC.2.2.2.2.1
  refine ⟨rfl, rfl, hR.1, hR.2, tt_warm (U := s) ht, hM.1, ht _ hM.1, ht _ hM.2.1, hM.2.2.1, fun sig h => ?_, ht _ hl⟩
  have h2 := hM.2.2.2
  rw [h] at h2
  exact (Option.some.inj h2).symm
theorem callN_tt {y2 : MethodName} {c2 : ByteArray} {n2 d2 n idx : Nat} {host : String} {ret2 : Option FieldType} (hC : Cx p s m args meth c Θ y cc nL ret) (hM : Mi y2 c2 n2 ret2 n) (hl : Cond.methodLinkNest y.cls idx y2 host ∈ TT) (hR : d2 + 1 ≤ R.frames ∧ 8 + (n2 + 11) + 32 * d2 ≤ R.locals) : va_CN R s args y.cls idx y2 host c2 n2 ret2 TT (rmo d2 mc ms) mc ms n := by
  have ht := hC.2.2.2.2.1
  refine ⟨⟨rfl, rfl, hR.1, hR.2, tt_warm (U := s) ht, hM.1⟩, ht _ hM.1, ht _ hM.2.1, hM.2.2.1, fun sig h => ?_, ht _ hl⟩
  have h2 := hM.2.2.2
  rw [h] at h2
  exact (Option.some.inj h2).symm
theorem pre_ok {H : Heap} {a : List Value} (hC : Cx p s m args meth c Θ y cc nL ret) (hR : Rep Θ M H) : ∀ U : State, U.heap = H → s.WarmedH U.vm → Pv Θ a M a.toArray U := fun U hU hW => ⟨rfl, by rw [hU]; exact hR, hC.2.2.2.2.2.1.moved hW.alike⟩
/-- invokevirtual -/
theorem r_cV {y2 : MethodName} {c2 : ByteArray} {n2 d2 n idx b ci : Nat} {ret2 : Option FieldType} {r : vw_C} (hC : Cx p s m args meth c Θ y cc nL ret) (As : List Value) (hLn : L.length = nL) (hM : Ct l Θ y2 d2 mc ms (.ref b :: As) M post) (hm : Mi y2 c2 n2 ret2 n) (hlk : Cond.methodLink y.cls idx y2 ∈ TT) (hin : Cond.instanceMethod y2 ∈ TT ∧ Cond.selects y2.cls y2 y2 ∈ TT) (hc : classes[ci]? = some r) (hcy : r.1 = y2.cls) (hk : kd M b = ci + 1) (hn : As.length = n) (hcat : (rest.map fun v => v.category).sum ≤ 8) (hR : d2 + 1 ≤ R.frames ∧ 8 + (n2 + 11) + 32 * d2 ≤ R.locals) (hf : cells + mc ≤ R.cells ∧ slots + ms ≤ R.slots) (d : decode cc pc = .ok (.invokevirtual idx, 3))
    (k : ∀ (v : Option Value) (M' : Mem), post v M' → Gj p l e R s m args below meth c Θ M' L (cells + mc) (slots + ms) Q (pc + 3) (v.toList ++ rest)) : Gj p l e R s m args below meth c Θ M L cells slots Q pc (As.reverse ++ .ref b :: rest) := by
  have ht := hC.2.2.2.2.1
  refine run_go (a := (Value.ref b :: As).toArray) (fun H locs ls hRp hl => ?_) k
  refine va_runV (C := y2.cls) (As := As) (rest := rest) (nL := L.length) (Ts := TT) ⟨hC.1, hC.2.1, hC.2.2.1.trans hLn.symm, hC.2.2.2.1, ht⟩ hM ⟨callB_tt hC hm hlk hR, ht _ hin.1, ht _ hin.2⟩ ⟨Pv.blind, ?_, pre_ok hC hRp⟩ rfl hn hl.1 rfl (lv_room hcat) d hf
  rw [← hcy]; exact hRp.recv hC.2.2.2.2.2.1 hk hc
theorem r_cVi {P : Int32 → Mem → Prop} {y2 : MethodName} {c2 : ByteArray} {n2 d2 n idx b ci : Nat} {ret2 : Option FieldType} {r : vw_C} (hC : Cx p s m args meth c Θ y cc nL ret) (As : List Value) (hLn : L.length = nL) (hM : Ct l Θ y2 d2 mc ms (.ref b :: As) M (pI P)) (hm : Mi y2 c2 n2 ret2 n) (hlk : Cond.methodLink y.cls idx y2 ∈ TT) (hin : Cond.instanceMethod y2 ∈ TT ∧ Cond.selects y2.cls y2 y2 ∈ TT) (hc : classes[ci]? = some r) (hcy : r.1 = y2.cls) (hk : kd M b = ci + 1) (hn : As.length = n) (hcat : (rest.map fun v => v.category).sum ≤ 8) (hR : d2 + 1 ≤ R.frames ∧ 8 + (n2 + 11) + 32 * d2 ≤ R.locals) (hf : cells + mc ≤ R.cells ∧ slots + ms ≤ R.slots) (d : decode cc pc = .ok (.invokevirtual idx, 3))
    (k : ∀ (r : Int32) (M' : Mem), P r M' → Gj p l e R s m args below meth c Θ M' L (cells + mc) (slots + ms) Q (pc + 3) (.int r :: rest)) : Gj p l e R s m args below meth c Θ M L cells slots Q pc (As.reverse ++ .ref b :: rest) := by
  exact r_cV hC As hLn hM hm hlk hin hc hcy hk hn hcat hR hf d (fun v M' ⟨r, hv, hp⟩ => by subst hv; exact k r M' hp)
theorem r_cVv {P : Mem → Prop} {y2 : MethodName} {c2 : ByteArray} {n2 d2 n idx b ci : Nat} {ret2 : Option FieldType} {r : vw_C} (hC : Cx p s m args meth c Θ y cc nL ret) (As : List Value) (hLn : L.length = nL) (hM : Ct l Θ y2 d2 mc ms (.ref b :: As) M (pV P)) (hm : Mi y2 c2 n2 ret2 n) (hlk : Cond.methodLink y.cls idx y2 ∈ TT) (hin : Cond.instanceMethod y2 ∈ TT ∧ Cond.selects y2.cls y2 y2 ∈ TT) (hc : classes[ci]? = some r) (hcy : r.1 = y2.cls) (hk : kd M b = ci + 1) (hn : As.length = n) (hcat : (rest.map fun v => v.category).sum ≤ 8) (hR : d2 + 1 ≤ R.frames ∧ 8 + (n2 + 11) + 32 * d2 ≤ R.locals) (hf : cells + mc ≤ R.cells ∧ slots + ms ≤ R.slots) (d : decode cc pc = .ok (.invokevirtual idx, 3))
    (k : ∀ M' : Mem, P M' → Gj p l e R s m args below meth c Θ M' L (cells + mc) (slots + ms) Q (pc + 3) rest) : Gj p l e R s m args below meth c Θ M L cells slots Q pc (As.reverse ++ .ref b :: rest) := by
  exact r_cV hC As hLn hM hm hlk hin hc hcy hk hn hcat hR hf d (fun v M' ⟨hv, hp⟩ => by subst hv; exact k M' hp)
theorem r_cVr {P : Option Nat → Mem → Prop} {y2 : MethodName} {c2 : ByteArray} {n2 d2 n idx b ci : Nat} {ret2 : Option FieldType} {r : vw_C} (hC : Cx p s m args meth c Θ y cc nL ret) (As : List Value) (hLn : L.length = nL) (hM : Ct l Θ y2 d2 mc ms (.ref b :: As) M (pR P)) (hm : Mi y2 c2 n2 ret2 n) (hlk : Cond.methodLink y.cls idx y2 ∈ TT) (hin : Cond.instanceMethod y2 ∈ TT ∧ Cond.selects y2.cls y2 y2 ∈ TT) (hc : classes[ci]? = some r) (hcy : r.1 = y2.cls) (hk : kd M b = ci + 1) (hn : As.length = n) (hcat : (rest.map fun v => v.category).sum ≤ 8) (hR : d2 + 1 ≤ R.frames ∧ 8 + (n2 + 11) + 32 * d2 ≤ R.locals) (hf : cells + mc ≤ R.cells ∧ slots + ms ≤ R.slots) (d : decode cc pc = .ok (.invokevirtual idx, 3))
    (k : ∀ (r : Option Nat) (M' : Mem), P r M' → Gj p l e R s m args below meth c Θ M' L (cells + mc) (slots + ms) Q (pc + 3) (va_rf r :: rest)) : Gj p l e R s m args below meth c Θ M L cells slots Q pc (As.reverse ++ .ref b :: rest) := by
  exact r_cV hC As hLn hM hm hlk hin hc hcy hk hn hcat hR hf d (fun v M' ⟨r, hv, hp⟩ => by subst hv; exact k r M' hp)
/-- invokevirtual of a nest mate -/
theorem r_cN {y2 : MethodName} {c2 : ByteArray} {n2 d2 n idx b ci : Nat}  {host : String} {ret2 : Option FieldType} {r : vw_C} (hC : Cx p s m args meth c Θ y cc nL ret) (As : List Value) (hLn : L.length = nL) (hM : Ct l Θ y2 d2 mc ms (.ref b :: As) M post) (hm : Mi y2 c2 n2 ret2 n) (hlk : Cond.methodLinkNest y.cls idx y2 host ∈ TT) (hin : Cond.instanceMethod y2 ∈ TT ∧ Cond.selects y2.cls y2 y2 ∈ TT) (hc : classes[ci]? = some r) (hcy : r.1 = y2.cls) (hk : kd M b = ci + 1) (hn : As.length = n) (hcat : (rest.map fun v => v.category).sum ≤ 8) (hR : d2 + 1 ≤ R.frames ∧ 8 + (n2 + 11) + 32 * d2 ≤ R.locals) (hf : cells + mc ≤ R.cells ∧ slots + ms ≤ R.slots) (d : decode cc pc = .ok (.invokevirtual idx, 3))
    (k : ∀ (v : Option Value) (M' : Mem), post v M' → Gj p l e R s m args below meth c Θ M' L (cells + mc) (slots + ms) Q (pc + 3) (v.toList ++ rest)) : Gj p l e R s m args below meth c Θ M L cells slots Q pc (As.reverse ++ .ref b :: rest) := by
  have ht := hC.2.2.2.2.1
  refine run_go (a := (Value.ref b :: As).toArray) (fun H locs ls hRp hl => ?_) k
  refine va_runVN (C := y2.cls) (As := As) (rest := rest) (nL := L.length) (Ts := TT) ⟨hC.1, hC.2.1, hC.2.2.1.trans hLn.symm, hC.2.2.2.1, ht⟩ hM ⟨callN_tt hC hm hlk hR, ht _ hin.1, ht _ hin.2⟩ ⟨Pv.blind, ?_, pre_ok hC hRp⟩ rfl hn hl.1 rfl (lv_room hcat) d hf
  rw [← hcy]; exact hRp.recv hC.2.2.2.2.2.1 hk hc
theorem r_cNi {P : Int32 → Mem → Prop} {y2 : MethodName} {c2 : ByteArray} {n2 d2 n idx b ci : Nat}  {host : String} {ret2 : Option FieldType} {r : vw_C} (hC : Cx p s m args meth c Θ y cc nL ret) (As : List Value) (hLn : L.length = nL) (hM : Ct l Θ y2 d2 mc ms (.ref b :: As) M (pI P)) (hm : Mi y2 c2 n2 ret2 n) (hlk : Cond.methodLinkNest y.cls idx y2 host ∈ TT) (hin : Cond.instanceMethod y2 ∈ TT ∧ Cond.selects y2.cls y2 y2 ∈ TT) (hc : classes[ci]? = some r) (hcy : r.1 = y2.cls) (hk : kd M b = ci + 1) (hn : As.length = n) (hcat : (rest.map fun v => v.category).sum ≤ 8) (hR : d2 + 1 ≤ R.frames ∧ 8 + (n2 + 11) + 32 * d2 ≤ R.locals) (hf : cells + mc ≤ R.cells ∧ slots + ms ≤ R.slots) (d : decode cc pc = .ok (.invokevirtual idx, 3))
    (k : ∀ (r : Int32) (M' : Mem), P r M' → Gj p l e R s m args below meth c Θ M' L (cells + mc) (slots + ms) Q (pc + 3) (.int r :: rest)) : Gj p l e R s m args below meth c Θ M L cells slots Q pc (As.reverse ++ .ref b :: rest) := by
  exact r_cN hC As hLn hM hm hlk hin hc hcy hk hn hcat hR hf d (fun v M' ⟨r, hv, hp⟩ => by subst hv; exact k r M' hp)
/-- invokestatic -/
theorem r_cS {y2 : MethodName} {c2 : ByteArray} {n2 d2 n idx : Nat} {ret2 : Option FieldType} (hC : Cx p s m args meth c Θ y cc nL ret) (As : List Value) (hLn : L.length = nL) (hM : Ct l Θ y2 d2 mc ms As M post) (hm : Mi y2 c2 n2 ret2 n) (hlk : Cond.methodLink y.cls idx y2 ∈ TT) (hin : Cond.static y2 ∈ TT) (hn : As.length = n) (hcat : (rest.map fun v => v.category).sum ≤ 8) (hR : d2 + 1 ≤ R.frames ∧ 8 + (n2 + 11) + 32 * d2 ≤ R.locals) (hf : cells + mc ≤ R.cells ∧ slots + ms ≤ R.slots) (d : decode cc pc = .ok (.invokestatic idx, 3))
    (k : ∀ (v : Option Value) (M' : Mem), post v M' → Gj p l e R s m args below meth c Θ M' L (cells + mc) (slots + ms) Q (pc + 3) (v.toList ++ rest)) : Gj p l e R s m args below meth c Θ M L cells slots Q pc (As.reverse ++ rest) := by
  have ht := hC.2.2.2.2.1
  refine run_go (a := As.toArray) (fun H locs ls hRp hl => ?_) k
  exact va_runS (As := As) (rest := rest) (nL := L.length) (Ts := TT) ⟨hC.1, hC.2.1, hC.2.2.1.trans hLn.symm, hC.2.2.2.1, ht⟩ hM ⟨callB_tt hC hm hlk hR, ht _ hin⟩ ⟨Pv.blind, pre_ok hC hRp⟩ rfl hn hl.1 rfl (lv_room hcat) d hf
theorem r_cSi {P : Int32 → Mem → Prop} {y2 : MethodName} {c2 : ByteArray} {n2 d2 n idx : Nat} {ret2 : Option FieldType} (hC : Cx p s m args meth c Θ y cc nL ret) (As : List Value) (hLn : L.length = nL) (hM : Ct l Θ y2 d2 mc ms As M (pI P)) (hm : Mi y2 c2 n2 ret2 n) (hlk : Cond.methodLink y.cls idx y2 ∈ TT) (hin : Cond.static y2 ∈ TT) (hn : As.length = n) (hcat : (rest.map fun v => v.category).sum ≤ 8) (hR : d2 + 1 ≤ R.frames ∧ 8 + (n2 + 11) + 32 * d2 ≤ R.locals) (hf : cells + mc ≤ R.cells ∧ slots + ms ≤ R.slots) (d : decode cc pc = .ok (.invokestatic idx, 3))
    (k : ∀ (r : Int32) (M' : Mem), P r M' → Gj p l e R s m args below meth c Θ M' L (cells + mc) (slots + ms) Q (pc + 3) (.int r :: rest)) : Gj p l e R s m args below meth c Θ M L cells slots Q pc (As.reverse ++ rest) := by
  exact r_cS hC As hLn hM hm hlk hin hn hcat hR hf d (fun v M' ⟨r, hv, hp⟩ => by subst hv; exact k r M' hp)
theorem r_cSr {P : Option Nat → Mem → Prop} {y2 : MethodName} {c2 : ByteArray} {n2 d2 n idx : Nat} {ret2 : Option FieldType} (hC : Cx p s m args meth c Θ y cc nL ret) (As : List Value) (hLn : L.length = nL) (hM : Ct l Θ y2 d2 mc ms As M (pR P)) (hm : Mi y2 c2 n2 ret2 n) (hlk : Cond.methodLink y.cls idx y2 ∈ TT) (hin : Cond.static y2 ∈ TT) (hn : As.length = n) (hcat : (rest.map fun v => v.category).sum ≤ 8) (hR : d2 + 1 ≤ R.frames ∧ 8 + (n2 + 11) + 32 * d2 ≤ R.locals) (hf : cells + mc ≤ R.cells ∧ slots + ms ≤ R.slots) (d : decode cc pc = .ok (.invokestatic idx, 3))
    (k : ∀ (r : Option Nat) (M' : Mem), P r M' → Gj p l e R s m args below meth c Θ M' L (cells + mc) (slots + ms) Q (pc + 3) (va_rf r :: rest)) : Gj p l e R s m args below meth c Θ M L cells slots Q pc (As.reverse ++ rest) := by
  exact r_cS hC As hLn hM hm hlk hin hn hcat hR hf d (fun v M' ⟨r, hv, hp⟩ => by subst hv; exact k r M' hp)
/-- a constructor -/
theorem r_cI {y2 : MethodName} {c2 : ByteArray} {n2 d2 n idx b : Nat} (hC : Cx p s m args meth c Θ y cc nL ret) (As : List Value) (hLn : L.length = nL) (hM : Ct l Θ y2 d2 mc ms (.ref b :: As) M post) (hm : Mi y2 c2 n2 none n) (hlk : Cond.methodLink y.cls idx y2 ∈ TT) (hin : y2.name = "<init>" ∧ Cond.instanceMethod y2 ∈ TT) (hn : As.length = n) (hcat : (rest.map fun v => v.category).sum ≤ 8) (hR : d2 + 1 ≤ R.frames ∧ 8 + (n2 + 11) + 32 * d2 ≤ R.locals) (hf : cells + mc ≤ R.cells ∧ slots + ms ≤ R.slots) (d : decode cc pc = .ok (.invokespecial idx, 3))
    (k : ∀ (v : Option Value) (M' : Mem), post v M' → Gj p l e R s m args below meth c Θ M' L (cells + mc) (slots + ms) Q (pc + 3) (v.toList ++ rest)) : Gj p l e R s m args below meth c Θ M L cells slots Q pc (As.reverse ++ .ref b :: rest) := by
  have ht := hC.2.2.2.2.1
  refine run_go (a := (Value.ref b :: As).toArray) (fun H locs ls hRp hl => ?_) k
  exact va_runI (As := As) (rest := rest) (nL := L.length) (Ts := TT) ⟨hC.1, hC.2.1, hC.2.2.1.trans hLn.symm, hC.2.2.2.1, ht⟩ hM ⟨callB_tt hC hm hlk hR, hin.1, ht _ hin.2⟩ ⟨Pv.blind, pre_ok hC hRp⟩ rfl hn hl.1 rfl (lv_room hcat) d hf
theorem r_cIv {P : Mem → Prop} {y2 : MethodName} {c2 : ByteArray} {n2 d2 n idx b : Nat} (hC : Cx p s m args meth c Θ y cc nL ret) (As : List Value) (hLn : L.length = nL) (hM : Ct l Θ y2 d2 mc ms (.ref b :: As) M (pV P)) (hm : Mi y2 c2 n2 none n) (hlk : Cond.methodLink y.cls idx y2 ∈ TT) (hin : y2.name = "<init>" ∧ Cond.instanceMethod y2 ∈ TT) (hn : As.length = n) (hcat : (rest.map fun v => v.category).sum ≤ 8) (hR : d2 + 1 ≤ R.frames ∧ 8 + (n2 + 11) + 32 * d2 ≤ R.locals) (hf : cells + mc ≤ R.cells ∧ slots + ms ≤ R.slots) (d : decode cc pc = .ok (.invokespecial idx, 3))
    (k : ∀ M' : Mem, P M' → Gj p l e R s m args below meth c Θ M' L (cells + mc) (slots + ms) Q (pc + 3) rest) : Gj p l e R s m args below meth c Θ M L cells slots Q pc (As.reverse ++ .ref b :: rest) := by
  exact r_cI hC As hLn hM hm hlk hin hn hcat hR hf d (fun v M' ⟨hv, hp⟩ => by subst hv; exact k M' hp)
theorem r_cIN {y2 : MethodName} {c2 : ByteArray} {n2 d2 n idx b : Nat} {host : String} (hC : Cx p s m args meth c Θ y cc nL ret) (As : List Value) (hLn : L.length = nL) (hM : Ct l Θ y2 d2 mc ms (.ref b :: As) M post) (hm : Mi y2 c2 n2 none n) (hlk : Cond.methodLinkNest y.cls idx y2 host ∈ TT) (hin : y2.name = "<init>" ∧ Cond.instanceMethod y2 ∈ TT) (hn : As.length = n) (hcat : (rest.map fun v => v.category).sum ≤ 8) (hR : d2 + 1 ≤ R.frames ∧ 8 + (n2 + 11) + 32 * d2 ≤ R.locals) (hf : cells + mc ≤ R.cells ∧ slots + ms ≤ R.slots) (d : decode cc pc = .ok (.invokespecial idx, 3))
    (k : ∀ (v : Option Value) (M' : Mem), post v M' → Gj p l e R s m args below meth c Θ M' L (cells + mc) (slots + ms) Q (pc + 3) (v.toList ++ rest)) : Gj p l e R s m args below meth c Θ M L cells slots Q pc (As.reverse ++ .ref b :: rest) := by
  have ht := hC.2.2.2.2.1
  refine run_go (a := (Value.ref b :: As).toArray) (fun H locs ls hRp hl => ?_) k
  exact va_runIN (As := As) (rest := rest) (nL := L.length) (Ts := TT) ⟨hC.1, hC.2.1, hC.2.2.1.trans hLn.symm, hC.2.2.2.1, ht⟩ hM ⟨callN_tt hC hm hlk hR, hin.1, ht _ hin.2⟩ ⟨Pv.blind, pre_ok hC hRp⟩ rfl hn hl.1 rfl (lv_room hcat) d hf
theorem r_cINv {P : Mem → Prop} {y2 : MethodName} {c2 : ByteArray} {n2 d2 n idx b : Nat} {host : String} (hC : Cx p s m args meth c Θ y cc nL ret) (As : List Value) (hLn : L.length = nL) (hM : Ct l Θ y2 d2 mc ms (.ref b :: As) M (pV P)) (hm : Mi y2 c2 n2 none n) (hlk : Cond.methodLinkNest y.cls idx y2 host ∈ TT) (hin : y2.name = "<init>" ∧ Cond.instanceMethod y2 ∈ TT) (hn : As.length = n) (hcat : (rest.map fun v => v.category).sum ≤ 8) (hR : d2 + 1 ≤ R.frames ∧ 8 + (n2 + 11) + 32 * d2 ≤ R.locals) (hf : cells + mc ≤ R.cells ∧ slots + ms ≤ R.slots) (d : decode cc pc = .ok (.invokespecial idx, 3))
    (k : ∀ M' : Mem, P M' → Gj p l e R s m args below meth c Θ M' L (cells + mc) (slots + ms) Q (pc + 3) rest) : Gj p l e R s m args below meth c Θ M L cells slots Q pc (As.reverse ++ .ref b :: rest) := by
  exact r_cIN hC As hLn hM hm hlk hin hn hcat hR hf d (fun v M' ⟨hv, hp⟩ => by subst hv; exact k M' hp)
theorem r_objInit (hC : Cx p s m args meth c Θ y cc nL ret) {idx a : Nat} (hLn : L.length = nL) (h1 : Cond.methodLink y.cls idx Lib.objectInit ∈ TT) (h2 : Cond.instanceMethod Lib.objectInit ∈ TT) (h3 : Cond.code Lib.objectInit ⟨#[0xb1]⟩ 1 none ∈ TT) (d : decode cc pc = .ok (.invokespecial idx, 3)) (hr : 1 ≤ R.frames) (hcat : (rest.map fun v => v.category).sum + 12 ≤ R.locals)
    (k : Gj p l e R s m args below meth c Θ M L cells slots Q (pc + 3) rest) : Gj p l e R s m args below meth c Θ M L cells slots Q pc (.ref a :: rest) := by
  intro H locs ls hRp hL hl
  have ht := hC.2.2.2.2.1
  exact W.objInit hC.1 hC.2.1 hC.2.2.2.1 (ht _ h1) (ht _ h2) (ht _ h3) rfl (by show ls.size = _; rw [hl.1, hLn, hC.2.2.1]) rfl d hr (by show 2 * 0 + _ + 12 ≤ _; omega) (k H locs ls hRp hL hl)
theorem r_max (hC : Cx p s m args meth c Θ y cc nL ret) {idx : Nat} {x z : Int32} (hLn : L.length = nL) (h1 : Cond.methodLink y.cls idx Lib.Math.max.name ∈ TT) (h2 : Cond.static Lib.Math.max.name ∈ TT) (h3 : Cond.initialized "java/lang/Math" ∈ TT) (h4 : Cond.code Lib.Math.max.name Lib.Math.max.code 2 (some .int) ∈ TT) (d : decode cc pc = .ok (.invokestatic idx, 3)) (hr : 1 ≤ R.frames) (hcat : (rest.map fun v => v.category).sum + 13 ≤ R.locals) (hcl : cells ≤ R.cells) (hsl : slots ≤ R.slots) {v : Int32} (hv : (if x < z then z else x) = v)
    (k : Gj p l e R s m args below meth c Θ M L cells slots Q (pc + 3) (.int v :: rest)) : Gj p l e R s m args below meth c Θ M L cells slots Q pc (.int z :: .int x :: rest) := by
  intro H locs ls hRp hL hl
  subst hv
  have ht := hC.2.2.2.2.1
  exact va_mmax hC.1 hC.2.1 (by rw [hl.1, hLn, hC.2.2.1]) hC.2.2.2.1 (ht _ h1) (ht _ h2) (ht _ h3) (ht _ h4) hr hcat hcl hsl d (k H locs ls hRp hL hl)
theorem r_min (hC : Cx p s m args meth c Θ y cc nL ret) {idx : Nat} {x z : Int32} (hLn : L.length = nL) (h1 : Cond.methodLink y.cls idx Lib.Math.min.name ∈ TT) (h2 : Cond.static Lib.Math.min.name ∈ TT) (h3 : Cond.initialized "java/lang/Math" ∈ TT) (h4 : Cond.code Lib.Math.min.name Lib.Math.min.code 2 (some .int) ∈ TT) (d : decode cc pc = .ok (.invokestatic idx, 3)) (hr : 1 ≤ R.frames) (hcat : (rest.map fun v => v.category).sum + 13 ≤ R.locals) (hcl : cells ≤ R.cells) (hsl : slots ≤ R.slots) {v : Int32} (hv : (if z < x then z else x) = v)
    (k : Gj p l e R s m args below meth c Θ M L cells slots Q (pc + 3) (.int v :: rest)) : Gj p l e R s m args below meth c Θ M L cells slots Q pc (.int z :: .int x :: rest) := by
  intro H locs ls hRp hL hl
  subst hv
  have ht := hC.2.2.2.2.1
  exact va_mmin hC.1 hC.2.1 (by rw [hl.1, hLn, hC.2.2.1]) hC.2.2.2.1 (ht _ h1) (ht _ h2) (ht _ h3) (ht _ h4) hr hcat hcl hsl d (k H locs ls hRp hL hl)
/-- getClass() of an array of objects -/
theorem r_getC (hC : Cx p s m args meth c Θ y cc nL ret) {idx a : Nat} (hLn : L.length = nL) (hk : akd (kd M a) = some 2) (h1 : Cond.methodLink y.cls idx ⟨"java/lang/Object", "getClass", "()Ljava/lang/Class;"⟩ ∈ TT) (h2 : Cond.declares ⟨"java/lang/Object", "getClass", "()Ljava/lang/Class;"⟩ ∈ TT) (h3 : Cond.selects "[Ljava/lang/Object;" ⟨"java/lang/Object", "getClass", "()Ljava/lang/Class;"⟩ ⟨"java/lang/Object", "getClass", "()Ljava/lang/Class;"⟩ ∈ TT) (h4 : Cond.instanceMethod ⟨"java/lang/Object", "getClass", "()Ljava/lang/Class;"⟩ ∈ TT) (h5 : Cond.native ⟨"java/lang/Object", "getClass", "()Ljava/lang/Class;"⟩ ∈ TT) (d : decode cc pc = .ok (.invokevirtual idx, 3)) (hr : 1 ≤ R.frames) (hcat : (rest.map fun v => v.category).sum + 14 ≤ R.locals)
    (k : Gj p l e R s m args below meth c Θ M L cells slots Q (pc + 3) (.ref Θ.mi :: rest)) : Gj p l e R s m args below meth c Θ M L cells slots Q pc (.ref a :: rest) := by
  intro H locs ls hRp hL hl
  have ht := hC.2.2.2.2.1
  refine va_getC hC.1 hC.2.1 (by rw [hl.1, hLn, hC.2.2.1]) hC.2.2.2.1 (ht _ h1) (ht _ h2) (ht _ h3) (ht _ h4) (ht _ h5) hC.2.2.2.2.2.1.2.2.2 ⟨_, hRp.arr a 2 hk, rfl, ?_⟩ hr hcat d (k H locs ls hRp hL hl)
  exact va_nmO (hC.tys (t := 2) (by omega)).2 rfl
/-- the objects that may lie in an array of objects -/
def okO (M : Mem) (b : Nat) : Prop := ∃ ci : Nat, kd M b = ci + 1 ∧ Asg 2 ci
/-- System.arraycopy between two arrays of objects, or within one -/
theorem r_acopy (hC : Cx p s m args meth c Θ y cc nL ret) {idx a0 a : Nat} {sp dp n : Int32} (sp' dp' n' : Nat) (hLn : L.length = nL) (hk0 : akd (kd M a0) = some 2) (hk1 : akd (kd M a) = some 2) (h1 : Cond.methodLink y.cls idx arraycopyName ∈ TT) (h2 : Cond.native arraycopyName ∈ TT) (h3 : Cond.static arraycopyName ∈ TT) (h4 : Cond.initialized "java/lang/System" ∈ TT)
    (e1 : sp = nI sp') (e2 : dp = nI dp') (e3 : n = nI n') (b1 : sp' + n' ≤ ln M a0) (b2 : dp' + n' ≤ ln M a) (b3 : ln M a0 < 2 ^ 31) (b4 : ln M a < 2 ^ 31) (hel : ∀ i : Nat, i < n' → ∀ z : Nat, eR M a0 (sp' + i) = some z → okO M z) (d : decode cc pc = .ok (.invokestatic idx, 3)) (hr : 1 ≤ R.frames) (hcat : (rest.map fun v => v.category).sum + (nativeFrameWords "java/lang/System" "arraycopy" 5 + 11) ≤ R.locals)
    (k : Gj p l e R s m args below meth c Θ (sAR M a (va_cpy (eR M a0) (eR M a) sp' dp' n')) L cells slots Q (pc + 3) rest) : Gj p l e R s m args below meth c Θ M L cells slots Q pc (.int n :: .int dp :: .ref a :: .int sp :: .ref a0 :: rest) := by
  intro H locs ls hRp hL hl
  have ht := hC.2.2.2.2.1
  have c1 : sp.toNatClampNeg = sp' := by rw [e1]; exact nI_clamp (by omega)
  have c2 : dp.toNatClampNeg = dp' := by rw [e2]; exact nI_clamp (by omega)
  have c3 : n.toNatClampNeg = n' := by rw [e3]; exact nI_clamp (by omega)
  have i1 : sp.toInt = (sp' : Int) := by rw [e1]; exact nI_toInt (by omega)
  have i2 : dp.toInt = (dp' : Int) := by rw [e2]; exact nI_toInt (by omega)
  have i3 : n.toInt = (n' : Int) := by rw [e3]; exact nI_toInt (by omega)
  have av2 : ∀ x : Nat, av M 2 x = fun j => va_rf (eR M x j) := fun x => by funext j; exact av_ref (by omega) x j
  have hc0 : H[a0]? = some (arrV (Θ.tc 2) (ln M a0) (fun j => va_rf (eR M a0 j))) := by rw [hRp.arr a0 2 hk0, av2]
  have hc1 : H[a]? = some (arrV (Θ.tc 2) (ln M a) (fun j => va_rf (eR M a j))) := by rw [hRp.arr a 2 hk1, av2]
  have hty := hC.tys (t := 2) (by omega)
  intro T hT X
  obtain ⟨-, k0, hk0', cm0, hkk0⟩ := hty.1 (ln M a0) (fun j => va_rf (eR M a0 j))
  obtain ⟨-, k1, hk1', cm1, hkk1⟩ := hty.1 (ln M a) (fun j => va_rf (eR M a j))
  obtain ⟨vm', X', step⟩ := X.arraycopy hC.1 hC.2.2.2.1 (ht _ h1) (ht _ h2) (ht _ h3) (ht _ h4) (src := a0) (dst := a) (cs := arrV (Θ.tc 2) (ln M a0) (fun j => va_rf (eR M a0 j))) (cd := arrV (Θ.tc 2) (ln M a) (fun j => va_rf (eR M a j))) (srcPos := sp) (destPos := dp) (n := n) (by rw [hT]; exact hc0) (by rw [hT]; exact hc1)
    (fun _ h => by cases h) (fun _ h => by cases h) (fun h => by cases h) (fun h => by cases h) hk0' hk1' hkk0 hkk1 rfl (by rw [e1]; exact nI_pos (by omega)) (by rw [e2]; exact nI_pos (by omega)) (by rw [e3]; exact nI_pos (by omega))
    (by rw [i1, i3, arrV_size]; omega)
    (by rw [i2, i3, arrV_size]; omega)
    (fun vm₁ hal i hi => by
      rw [c3] at hi
      have e : (arrV (Θ.tc 2) (ln M a0) (fun j => va_rf (eR M a0 j))).slots.getD (sp.toNatClampNeg + i) .null = va_rf (eR M a0 (sp' + i)) := by
        rw [c1, Array.getD_eq_getD_getElem?, arrV_read _ _ (by omega)]
        rfl
      rw [e]
      cases hy : eR M a0 (sp' + i) with
      | none => exact ⟨rfl, trivial⟩
      | some z =>
        obtain ⟨ci, hz1, hz2⟩ := hel i hi z hy
        obtain ⟨cellV, g1, g2, ⟨kC, hkC⟩, hasg⟩ := hz2.any hC hRp hz1 (E := "java/lang/Object") rfl
        obtain ⟨kA, comp, r1, r2, r3, -⟩ := hty.2
        cases hk1'.symm.trans r1
        cases hkk1.symm.trans r2
        obtain ⟨kE, hkE, -⟩ := Vm.findClass_spec r3
        obtain ⟨kC', hkC', -⟩ := hal.2.2 _ _ hkC
        obtain ⟨kE', hkE', -⟩ := hal.2.2 _ _ hkE
        refine ⟨rfl, cellV, (show T.heap[z]? = some cellV by rw [hT]; exact g1), (fun q h => by rw [h] at g2; cases g2), ⟨kC', hkC'⟩, ?_, ?_⟩
        · exact ⟨kE', hkE'⟩
        · show vm₁.assignable _ _ = true
          rw [hal.assignable]
          exact hasg _ r3)
    (g := F0 m pc ls (.int n :: .int dp :: .ref a :: .int sp :: .ref a0 :: rest)) rfl (by show ls.size = _; rw [hl.1, hLn, hC.2.2.1]) (rest := rest) rfl (by rw [hC.2.1]; exact d) hr (by show 2 * 0 + _ + _ ≤ _; omega)
  have e1 : copied (arrV (Θ.tc 2) (ln M a0) (fun j => va_rf (eR M a0 j))) (arrV (Θ.tc 2) (ln M a) (fun j => va_rf (eR M a j))) sp dp n = arrV (Θ.tc 2) (ln M a) (fun j => va_rf (va_cpy (eR M a0) (eR M a) sp' dp' n' j)) := by
    have h := va_copied (n1 := ln M a) (n0 := ln M a0) (sp := sp') (dp := dp') (n := n') (fun z => va_rf z) (Θ.tc 2) (Θ.tc 2) (eR M a0) (eR M a) b1
    show _ = _
    rw [← h]
    unfold copied
    rw [c1, c2, c3]
  rw [e1] at X' step
  have hlt : a < H.size := (Array.getElem?_eq_some_iff.mp hc1).1
  have oq : ∀ (w : Cell) (q : Nat), q ≠ a → (H.setIfInBounds a w)[q]? = H[q]? := fun w q hq => by simp [Array.getElem?_setIfInBounds, Ne.symm hq]
  obtain ⟨t, a1, b1⟩ := k (H.setIfInBounds a (arrV (Θ.tc 2) (ln M a) (fun j => va_rf (va_cpy (eR M a0) (eR M a) sp' dp' n' j)))) _ ls (hRp.setA hk1 (by simp) (oq _) rfl rfl rfl rfl (fun _ _ _ => rfl) (fun b j hb => by show va_up (eR M) a _ b j = _; rw [va_up_ne _ _ hb]) (by
      have : av (sAR M a (va_cpy (eR M a0) (eR M a) sp' dp' n')) 2 a = fun j => va_rf (va_cpy (eR M a0) (eR M a) sp' dp' n' j) := by
        funext j
        rw [av_ref (by omega)]
        show va_rf (va_up (eR M) a _ a j) = _
        rw [va_up_self]
      rw [this]
      simp [Array.getElem?_setIfInBounds, hlt])) (fun q hq => by
      rcases List.mem_append.mp hq with h | h
      · exact hL q h
      · obtain ⟨z, -, hz⟩ := List.mem_map.mp h
        rw [← hz]
        exact hRp.mine (akd_ne hk1).1 (akd_ne hk1).2.1) hl _ (by rw [← hT]; rfl) X'
  exact ⟨t, step t a1, b1⟩
/-- what the heap says of the library's empty array -/
theorem r_emp {st : List Value} {q : Nat} (hk : kd M q = 30) (k : q = Θ.E → ln M q = 0 → Gj p l e R s m args below meth c Θ M L cells slots Q pc st) : Gj p l e R s m args below meth c Θ M L cells slots Q pc st :=
  fun H locs ls hRp hL hl => k (hRp.em.2 q hk).1 (hRp.em.2 q hk).2 H locs ls hRp hL hl
end RC
