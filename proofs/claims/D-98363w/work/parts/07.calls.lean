set_option maxRecDepth 100000
/-- a contract's start -/
def CPc (D : va_G) (dA : Nat → ClassId) (ad : Nat → Nat) (h : HT) (sz : Nat) (as : List TV) : Array Value → State → Prop :=
  va_Pc (as.map (tv ad)) (fun U => U.heap.size = sz ∧ va_P D CL (PL dA ad h) U.heap ∧ va_D (fun _ => True) (PL dA ad h) ∧ WFH h ∧ KB D dA ad (va_A (PL dA ad h) sz) U U.heap)
/-- the world behind a contract -/
def CB (D : va_G) (dA : Nat → ClassId) (ad : Nat → Nat) (A : Nat → Prop) (u : HT) (t : State) : Prop := va_P D CL (PL dA ad u) t.heap ∧ va_D A (PL dA ad u) ∧ WFH u
abbrev AF (dA : Nat → ClassId) (ad : Nat → Nat) (h : HT) (sz : Nat) : Nat → Prop := va_A (PL dA ad h) sz
/-- contracts that make nothing and throw nothing: an int (boolean, char ..), nothing, a reference -/
def CMi (l : Launch) (y : MethodName) (cc : ByteArray) (nL : Nat) (ret : FieldType) (rm : Room) (D : va_G) (dA : Nat → ClassId) (ad : Nat → Nat) (h : HT) (sz : Nat) (as : List TV) (Q : Int32 → HT → Prop) : Prop :=
  Met l y (ws_ y cc nL (some ret)) rm (CPc D dA ad h sz as) (va_Qi Q (CB D dA ad (AF dA ad h sz)) (AF dA ad h sz)) 0 0 (AF dA ad h sz)
def CMv (l : Launch) (y : MethodName) (cc : ByteArray) (nL : Nat) (rm : Room) (D : va_G) (dA : Nat → ClassId) (ad : Nat → Nat) (h : HT) (sz : Nat) (as : List TV) (Q : HT → Prop) : Prop :=
  Met l y (ws_ y cc nL none) rm (CPc D dA ad h sz as) (va_Qv Q (CB D dA ad (AF dA ad h sz)) (AF dA ad h sz)) 0 0 (AF dA ad h sz)
def CMq (l : Launch) (y : MethodName) (cc : ByteArray) (nL : Nat) (ret : FieldType) (rm : Room) (D : va_G) (dA : Nat → ClassId) (ad : Nat → Nat) (h : HT) (sz : Nat) (as : List TV) (Q : Nat → HT → Prop) : Prop :=
  Met l y (ws_ y cc nL (some ret)) rm (CPc D dA ad h sz as) (va_Qq (fun (r : Option Nat) (u : HT) => ∃ v, r = ro ad v ∧ v < 200 + hN u ∧ Q v u) (CB D dA ad (AF dA ad h sz)) (AF dA ad h sz)) 0 0 (AF dA ad h sz)
theorem cpc_blind {D : va_G} {dA : Nat → ClassId} {ad : Nat → Nat} {h : HT} {sz : Nat} {as : List TV} : FrameBlind (CPc D dA ad h sz as) := fun a U g mk q => by
  obtain ⟨q0, q1, q2, q3, q4, q5⟩ := q
  exact ⟨q0, q1, q2, q3, q4, (kb_same (s := U) (U := U.calling g mk a) (H := U.heap) rfl q5 : KB D dA ad (va_A (PL dA ad h) sz) (U.calling g mk a) U.heap)⟩
theorem lg_tsl {ad : Nat → Nat} : ∀ (as : List TV), (lg_sl (as.map (tv ad))).length = (as.map fun x => if tl x = true then 2 else 1).sum
  | [] => rfl
  | x :: as => by
    have ih := lg_tsl (ad := ad) as
    unfold lg_sl at ih ⊢
    rw [List.map_cons, List.flatMap_cons, List.length_append, ih, List.map_cons, List.sum_cons]
    congr 1
    have := tv_cat (ad := ad) x
    cases hx : tl x with
    | true =>
      rw [hx] at this
      have : (tv ad x).category = 2 := by simpa using this
      rw [if_pos this]; rfl
    | false =>
      rw [hx] at this
      have : ¬ (tv ad x).category = 2 := by simpa using this
      rw [if_neg this]; rfl
theorem ph_enter {l : Launch} {y : MethodName} {cc : ByteArray} {nL : Nat} {ret : Option FieldType} {rm : Room} {D : va_G} {dA : Nat → ClassId} {ad : Nat → Nat} {h : HT} {sz mc ms : Nat} (as : List TV) {Qc : (Nat → Prop) → Array Value → State → Outcome → State → Prop} (hy : plainName y.cls = true) (hlen : (as.map fun x => if tl x = true then 2 else 1).sum ≤ nL)
    (body : ∀ (p : Program) (e : Env) (s : State) (m : MethodId) (args : Array Value) (below : List Frame) (meth : Method) (c : Code) (A : Nat → Prop) (ls : Array Slot), CX p s m args c meth cc nL ret y.cls D dA ad A → PW D dA A s.heap ad h s.heap [] → LH ad ls nL (targs 0 as) → meth.name = y.name → W p l e rm s m args below meth c s.heap [] 0 0 (MQ below (Qc A) args s mc ms A) (F0 m 0 ls [])) :
    Met l y (ws_ y cc nL ret) rm (CPc D dA ad h sz as) (Qc (AF dA ad h sz)) mc ms (AF dA ad h sz) := by
  refine Met.ofW (cc := cc) (maxL := nL) (ret := ret) hy rfl ?_
  intro p e s m args below meth c s₁ B hml hv
  obtain ⟨rfl, hsz, hP, hD0, hw, hkb⟩ := hv
  have hts := atoms_spec (ws := ws_ y cc nL ret) B.pre
  have hts : ∀ w ∈ lw_all, w.before _ s = true := fun w h => hts w (List.mem_cons_of_mem _ h)
  have hown : s.vm.findClass y.cls = some m.cls := findClass_of_methodNamed B.named
  have hnm : meth.name = y.name := (name_of_methodNamed B.named B.method).1
  subst hsz
  have hl := lv_entry (as.map (tv ad)) (n := nL) (by rw [lg_tsl]; exact hlen)
  rw [targs_map] at hl
  rw [lg_entry_eq]
  exact body p e s m _ below meth c (AF dA ad h s.heap.size) _ ⟨B.exec, B.bytes, hml, hown, hts, fun q hq => Or.inr hq, hkb, B.returns, B.notSynchronized⟩ ⟨hP, hD0.self, va_S.rf, hw⟩ hl hnm
section CALLS
variable {p : Program} {l : Launch} {e : Env} {R : Room} {s : State} {m : MethodId} {args : Array Value} {below : List Frame} {meth : Method} {c : Code} {H : Heap} {locs : List Loc} {cells slots : Nat} {Q : State → Prop}
variable {cc : ByteArray} {nL pc : Nat} {ret : Option FieldType} {ls : Array Slot} {rest : List Value} {D : va_G} {dA : Nat → ClassId} {ad : Nat → Nat} {A : Nat → Prop} {h : HT} {own : String} {pl : Nat} {lv : List (Nat × TV)}
variable {Qi : Int32 → HT → Prop} {Qv : HT → Prop} {Qq : Nat → HT → Prop} {Q1 : Int32 → HT → Prop} {Qv1 : HT → Prop} {Qq1 : Nat → HT → Prop}
theorem ph_iret {v : Int32} (X : CX p s m args c meth cc nL (some .int) own D dA ad A) (hP : PW D dA A s.heap ad h H locs) (hQ : Qi v h) (hdg : decode cc pc = .ok (.ireturn, 1)) :
    W p l e R s m args below meth c H locs cells slots (MQ below (va_Qi Qi (CB D dA ad A) A) args s cells slots A) (F0 m pc ls [.int v]) :=
  W.iret X.1 X.2.1 X.2.2.2.2.2.2.2.1 (fun t ht hW => ⟨⟨v, h, rfl, hQ, by rw [CB, ht]; exact ⟨hP.1, hP.2.1, hP.2.2.2⟩⟩, hP.2.2.1.F ht⟩) hP.2.2.1.2.2 hdg X.2.2.2.2.2.2.2.2
theorem ph_zret {v : Int32} {ty : FieldType} (X : CX p s m args c meth cc nL (some ty) own D dA ad A) (hP : PW D dA A s.heap ad h H locs) (hn : narrow ty (.int v) = .int v) (hQ : Qi v h) (hdg : decode cc pc = .ok (.ireturn, 1)) :
    W p l e R s m args below meth c H locs cells slots (MQ below (va_Qi Qi (CB D dA ad A) A) args s cells slots A) (F0 m pc ls [.int v]) :=
  W.zret X.1 X.2.1 X.2.2.2.2.2.2.2.1 hn (fun t ht hW => ⟨⟨v, h, rfl, hQ, by rw [CB, ht]; exact ⟨hP.1, hP.2.1, hP.2.2.2⟩⟩, hP.2.2.1.F ht⟩) hP.2.2.1.2.2 hdg X.2.2.2.2.2.2.2.2
theorem ph_vret (X : CX p s m args c meth cc nL none own D dA ad A) (hP : PW D dA A s.heap ad h H locs) (hQ : Qv h) (hdg : decode cc pc = .ok (.return_, 1)) :
    W p l e R s m args below meth c H locs cells slots (MQ below (va_Qv Qv (CB D dA ad A) A) args s cells slots A) (F0 m pc ls []) :=
  W.vret X.1 X.2.1 X.2.2.2.2.2.2.2.1 (fun t ht hW => ⟨⟨h, rfl, hQ, by rw [CB, ht]; exact ⟨hP.1, hP.2.1, hP.2.2.2⟩⟩, hP.2.2.1.F ht⟩) hP.2.2.1.2.2 hdg X.2.2.2.2.2.2.2.2
theorem ph_aret {v : Nat} {rt : FieldType} (X : CX p s m args c meth cc nL (some rt) own D dA ad A) (hP : PW D dA A s.heap ad h H locs) (hrt : (∃ n, rt = .object n) ∨ ∃ t, rt = .array t) (hv : v < 200 + hN h) (hQ : Qq v h) (hdg : decode cc pc = .ok (.areturn, 1)) :
    W p l e R s m args below meth c H locs cells slots (MQ below (va_Qq (fun (r : Option Nat) (u : HT) => ∃ v, r = ro ad v ∧ v < 200 + hN u ∧ Qq v u) (CB D dA ad A) A) args s cells slots A) (F0 m pc ls [rv ad v]) :=
  W.aret X.1 X.2.1 X.2.2.2.2.2.2.2.1 hrt (va_rf_or _) (fun t ht hW => ⟨⟨ro ad v, h, rfl, ⟨v, rfl, hv, hQ⟩, by rw [CB, ht]; exact ⟨hP.1, hP.2.1, hP.2.2.2⟩⟩, hP.2.2.1.F ht⟩) hP.2.2.1.2.2 hdg X.2.2.2.2.2.2.2.2
/-- what a callee's start asks -/
theorem ph_free (X : CX p s m args c meth cc nL ret own D dA ad A) (hP : PW D dA A s.heap ad h H locs) : ∀ q, AF dA ad h H.size q → A q := by
  intro q hq
  rcases hq with ⟨k, e, hk⟩ | hq
  · exact hP.2.1.2 k _ hk
  · exact X.2.2.2.2.2.1 q (Nat.le_trans hP.2.2.1.1 hq)
theorem ph_kb (X : CX p s m args c meth cc nL ret own D dA ad A) (hP : PW D dA A s.heap ad h H locs) {U : State} (hU : U.heap = H) (hW : s.WarmedH U.vm) : KB D dA ad (AF dA ad h H.size) U U.heap := by
  rw [hU]
  exact kb_narrow (kb_kept (kb_warm hW X.2.2.2.2.2.2.1) hP.2.2.1.2.1) (ph_free X hP)
theorem ph_start (X : CX p s m args c meth cc nL ret own D dA ad A) (hP : PW D dA A s.heap ad h H locs) (as : List TV) {U : State} (hU : U.heap = H) (hW : s.WarmedH U.vm) : CPc D dA ad h H.size as (as.map (tv ad)).toArray U :=
  ⟨rfl, by rw [hU], by rw [hU]; exact hP.1, hP.2.1.weaken (fun _ _ _ _ => trivial), hP.2.2.2, ph_kb X hP hU hW⟩
theorem ph_recv {ci : Nat} {r : vw_C} (X : CX p s m args c meth cc nL ret own D dA ad A) (hP : PW D dA A s.heap ad h H locs) (hk : hK h pl = ci + 1) (hci : ci < 99) (hc : CL[ci]? = some r) : ∃ cell : Cell, H[ad pl]? = some cell ∧ cell.vm.isStatics = false ∧ s.vm.findClass r.1 = some cell.cls :=
  va_recv X.2.2.2.2.2.2.1.1 hP.1 hc (ent_o hP.2.2.2 hk hci)
theorem ph_after {u : HT} {t : State} {H1 : Heap} {locs1 : List Loc} (X : CX p s m args c meth cc nL ret own D dA ad A) (hP : PW D dA A s.heap ad h H locs) (hB : CB D dA ad (AF dA ad h H.size) u t) (ht : t.heap = H1) (hS : va_S A s.heap H1 locs1) : PW D dA A s.heap ad u H1 locs1 :=
  ⟨by rw [← ht]; exact hB.1, hB.2.1.weaken (fun _ q _ hq => ph_free X hP q.1 hq), hS, hB.2.2⟩
theorem cs0 {k : Nat} : (([] : List Value).map fun v => v.category).sum ≤ k := Nat.zero_le _
theorem csi {rest : List Value} {x : Int32} {k : Nat} (h : (rest.map fun v => v.category).sum ≤ k) : ((Value.int x :: rest).map fun v => v.category).sum ≤ k + 1 := by
  rw [List.map_cons, List.sum_cons, show (Value.int x).category = 1 from rfl]; omega
theorem csr {rest : List Value} {x k : Nat} (h : (rest.map fun v => v.category).sum ≤ k) : ((rv ad x :: rest).map fun v => v.category).sum ≤ k + 1 := by
  rw [List.map_cons, List.sum_cons, rv_cat]; omega
theorem csf {rest : List Value} {x k : Nat} (h : (rest.map fun v => v.category).sum ≤ k) : ((Value.ref x :: rest).map fun v => v.category).sum ≤ k + 1 := by
  rw [List.map_cons, List.sum_cons, show (Value.ref x).category = 1 from rfl]; omega
theorem csl {rest : List Value} {x : Int64} {k : Nat} (h : (rest.map fun v => v.category).sum ≤ k) : ((Value.long x :: rest).map fun v => v.category).sum ≤ k + 2 := by
  rw [List.map_cons, List.sum_cons, show (Value.long x).category = 2 from rfl]; omega
variable {y : MethodName} {bytes : ByteArray} {maxL nA index ci : Nat} {rt : FieldType} {rm : Room} {C : String} {T : u_T} {N : Nat} {st0 : List Value}
theorem ph_callVi (as : List TV) (X : CX p s m args c meth cc nL ret own D dA ad A) (hP : PW D dA A s.heap ad h H locs) (hM : CMi l y bytes maxL rt rm D dA ad h H.size (pX pl :: as) Q1) (cw : CallW R s args own C index y bytes maxL (some rt) (ws_ y bytes maxL (some rt)) rm 0 0 nA) (hk : hK h pl = ci + 1) (hci : ci < 99) (hc : CL[ci]? = some (C, T, N)) (hn : as.length = nA) (hl : LH ad ls nL lv) {k8 : Nat} (hrest : (rest.map fun v => v.category).sum ≤ k8) (h8 : k8 ≤ 8) (hroom : cells ≤ R.cells ∧ slots ≤ R.slots) (hdg : decode cc pc = .ok (.invokevirtual index, 3)) (hst : st0 = (as.map (tv ad)).reverse ++ rv ad pl :: rest)
    (kk : ∀ (r : Int32) (u : HT) (H1 : Heap) (locs1 : List Loc), Q1 r u → PW D dA A s.heap ad u H1 locs1 → W p l e R s m args below meth c H1 locs1 cells slots Q (F0 m (pc + 3) ls (.int r :: rest))) : W p l e R s m args below meth c H locs cells slots Q (F0 m pc ls st0) := by
  subst hst
  have e : rv ad pl = .ref (ad pl) := rv_nz (pl_nz hP.2.2.2 hk (by omega) (by omega))
  have hst : ∀ U : State, U.heap = H → s.WarmedH U.vm → CPc D dA ad h H.size (pX pl :: as) (Value.ref (ad pl) :: as.map (tv ad)).toArray U := fun U hU hW => by
    have := ph_start X hP (pX pl :: as) hU hW
    rw [List.map_cons, show tv ad (pX pl) = rv ad pl from rfl, e] at this
    exact this
  rw [e]
  exact va_calli (va_runV (As := as.map (tv ad)) (rest := rest) ⟨X.1, X.2.1, X.2.2.1, X.2.2.2.1, X.2.2.2.2.1⟩ hM cw ⟨cpc_blind, ph_recv X hP hk hci hc, hst⟩ rfl (by rw [List.length_map]; exact hn) hl.1 rfl (lv_room (Nat.le_trans hrest h8)) hdg hroom) hP.2.2.1 (fun q _ hq => ph_free X hP q hq) (ph_free X hP) (fun r u t H1 locs1 ht hvm hq hB hz hk1 hS => kk r u H1 locs1 hq (ph_after X hP hB ht hS))
theorem ph_callSi (as : List TV) (X : CX p s m args c meth cc nL ret own D dA ad A) (hP : PW D dA A s.heap ad h H locs) (hM : CMi l y bytes maxL rt rm D dA ad h H.size as Q1) (cw : CallB R s args own index y bytes maxL (some rt) (ws_ y bytes maxL (some rt)) rm 0 0 nA ∧ (Cond.static y).before args s = true) (hn : as.length = nA) (hl : LH ad ls nL lv) {k8 : Nat} (hrest : (rest.map fun v => v.category).sum ≤ k8) (h8 : k8 ≤ 8) (hroom : cells ≤ R.cells ∧ slots ≤ R.slots) (hdg : decode cc pc = .ok (.invokestatic index, 3)) (hst : st0 = (as.map (tv ad)).reverse ++ rest)
    (kk : ∀ (r : Int32) (u : HT) (H1 : Heap) (locs1 : List Loc), Q1 r u → PW D dA A s.heap ad u H1 locs1 → W p l e R s m args below meth c H1 locs1 cells slots Q (F0 m (pc + 3) ls (.int r :: rest))) : W p l e R s m args below meth c H locs cells slots Q (F0 m pc ls st0) := by
  subst hst
  exact va_calli (va_runS (As := as.map (tv ad)) (rest := rest) ⟨X.1, X.2.1, X.2.2.1, X.2.2.2.1, X.2.2.2.2.1⟩ hM cw ⟨cpc_blind, fun U hU hW => ph_start X hP as hU hW⟩ rfl (by rw [List.length_map]; exact hn) hl.1 rfl (lv_room (Nat.le_trans hrest h8)) hdg hroom) hP.2.2.1 (fun q _ hq => ph_free X hP q hq) (ph_free X hP) (fun r u t H1 locs1 ht hvm hq hB hz hk1 hS => kk r u H1 locs1 hq (ph_after X hP hB ht hS))
theorem ph_callVv (as : List TV) (X : CX p s m args c meth cc nL ret own D dA ad A) (hP : PW D dA A s.heap ad h H locs) (hM : CMv l y bytes maxL rm D dA ad h H.size (pX pl :: as) Qv1) (cw : CallW R s args own C index y bytes maxL none (ws_ y bytes maxL none) rm 0 0 nA) (hk : hK h pl = ci + 1) (hci : ci < 99) (hc : CL[ci]? = some (C, T, N)) (hn : as.length = nA) (hl : LH ad ls nL lv) {k8 : Nat} (hrest : (rest.map fun v => v.category).sum ≤ k8) (h8 : k8 ≤ 8) (hroom : cells ≤ R.cells ∧ slots ≤ R.slots) (hdg : decode cc pc = .ok (.invokevirtual index, 3)) (hst : st0 = (as.map (tv ad)).reverse ++ rv ad pl :: rest)
    (kk : ∀ (u : HT) (H1 : Heap) (locs1 : List Loc), Qv1 u → PW D dA A s.heap ad u H1 locs1 → W p l e R s m args below meth c H1 locs1 cells slots Q (F0 m (pc + 3) ls rest)) : W p l e R s m args below meth c H locs cells slots Q (F0 m pc ls st0) := by
  subst hst
  have e : rv ad pl = .ref (ad pl) := rv_nz (pl_nz hP.2.2.2 hk (by omega) (by omega))
  have hst : ∀ U : State, U.heap = H → s.WarmedH U.vm → CPc D dA ad h H.size (pX pl :: as) (Value.ref (ad pl) :: as.map (tv ad)).toArray U := fun U hU hW => by
    have := ph_start X hP (pX pl :: as) hU hW
    rw [List.map_cons, show tv ad (pX pl) = rv ad pl from rfl, e] at this
    exact this
  rw [e]
  exact va_callv (va_runV (As := as.map (tv ad)) (rest := rest) ⟨X.1, X.2.1, X.2.2.1, X.2.2.2.1, X.2.2.2.2.1⟩ hM cw ⟨cpc_blind, ph_recv X hP hk hci hc, hst⟩ rfl (by rw [List.length_map]; exact hn) hl.1 rfl (lv_room (Nat.le_trans hrest h8)) hdg hroom) hP.2.2.1 (fun q _ hq => ph_free X hP q hq) (ph_free X hP) (fun u t H1 locs1 ht hvm hq hB hz hk1 hS => kk u H1 locs1 hq (ph_after X hP hB ht hS))
theorem ph_callSv (as : List TV) (X : CX p s m args c meth cc nL ret own D dA ad A) (hP : PW D dA A s.heap ad h H locs) (hM : CMv l y bytes maxL rm D dA ad h H.size as Qv1) (cw : CallB R s args own index y bytes maxL none (ws_ y bytes maxL none) rm 0 0 nA ∧ (Cond.static y).before args s = true) (hn : as.length = nA) (hl : LH ad ls nL lv) {k8 : Nat} (hrest : (rest.map fun v => v.category).sum ≤ k8) (h8 : k8 ≤ 8) (hroom : cells ≤ R.cells ∧ slots ≤ R.slots) (hdg : decode cc pc = .ok (.invokestatic index, 3)) (hst : st0 = (as.map (tv ad)).reverse ++ rest)
    (kk : ∀ (u : HT) (H1 : Heap) (locs1 : List Loc), Qv1 u → PW D dA A s.heap ad u H1 locs1 → W p l e R s m args below meth c H1 locs1 cells slots Q (F0 m (pc + 3) ls rest)) : W p l e R s m args below meth c H locs cells slots Q (F0 m pc ls st0) := by
  subst hst
  exact va_callv (va_runS (As := as.map (tv ad)) (rest := rest) ⟨X.1, X.2.1, X.2.2.1, X.2.2.2.1, X.2.2.2.2.1⟩ hM cw ⟨cpc_blind, fun U hU hW => ph_start X hP as hU hW⟩ rfl (by rw [List.length_map]; exact hn) hl.1 rfl (lv_room (Nat.le_trans hrest h8)) hdg hroom) hP.2.2.1 (fun q _ hq => ph_free X hP q hq) (ph_free X hP) (fun u t H1 locs1 ht hvm hq hB hz hk1 hS => kk u H1 locs1 hq (ph_after X hP hB ht hS))
theorem ph_callVq (as : List TV) (X : CX p s m args c meth cc nL ret own D dA ad A) (hP : PW D dA A s.heap ad h H locs) (hM : CMq l y bytes maxL rt rm D dA ad h H.size (pX pl :: as) Qq1) (cw : CallW R s args own C index y bytes maxL (some rt) (ws_ y bytes maxL (some rt)) rm 0 0 nA) (hk : hK h pl = ci + 1) (hci : ci < 99) (hc : CL[ci]? = some (C, T, N)) (hn : as.length = nA) (hl : LH ad ls nL lv) {k8 : Nat} (hrest : (rest.map fun v => v.category).sum ≤ k8) (h8 : k8 ≤ 8) (hroom : cells ≤ R.cells ∧ slots ≤ R.slots) (hdg : decode cc pc = .ok (.invokevirtual index, 3)) (hst : st0 = (as.map (tv ad)).reverse ++ rv ad pl :: rest)
    (kk : ∀ (v : Nat) (u : HT) (H1 : Heap) (locs1 : List Loc), Qq1 v u → v < 200 + hN u → PW D dA A s.heap ad u H1 locs1 → W p l e R s m args below meth c H1 locs1 cells slots Q (F0 m (pc + 3) ls (rv ad v :: rest))) : W p l e R s m args below meth c H locs cells slots Q (F0 m pc ls st0) := by
  subst hst
  have e : rv ad pl = .ref (ad pl) := rv_nz (pl_nz hP.2.2.2 hk (by omega) (by omega))
  have hst : ∀ U : State, U.heap = H → s.WarmedH U.vm → CPc D dA ad h H.size (pX pl :: as) (Value.ref (ad pl) :: as.map (tv ad)).toArray U := fun U hU hW => by
    have := ph_start X hP (pX pl :: as) hU hW
    rw [List.map_cons, show tv ad (pX pl) = rv ad pl from rfl, e] at this
    exact this
  rw [e]
  exact va_callq (va_runV (As := as.map (tv ad)) (rest := rest) ⟨X.1, X.2.1, X.2.2.1, X.2.2.2.1, X.2.2.2.2.1⟩ hM cw ⟨cpc_blind, ph_recv X hP hk hci hc, hst⟩ rfl (by rw [List.length_map]; exact hn) hl.1 rfl (lv_room (Nat.le_trans hrest h8)) hdg hroom) hP.2.2.1 (fun q _ hq => ph_free X hP q hq) (ph_free X hP) (fun r u t H1 locs1 ht hvm hq hB hz hk1 hS => by obtain ⟨v, rfl, hv, hq⟩ := hq; exact kk v u H1 locs1 hq hv (ph_after X hP hB ht hS))
theorem ph_callSq (as : List TV) (X : CX p s m args c meth cc nL ret own D dA ad A) (hP : PW D dA A s.heap ad h H locs) (hM : CMq l y bytes maxL rt rm D dA ad h H.size as Qq1) (cw : CallB R s args own index y bytes maxL (some rt) (ws_ y bytes maxL (some rt)) rm 0 0 nA ∧ (Cond.static y).before args s = true) (hn : as.length = nA) (hl : LH ad ls nL lv) {k8 : Nat} (hrest : (rest.map fun v => v.category).sum ≤ k8) (h8 : k8 ≤ 8) (hroom : cells ≤ R.cells ∧ slots ≤ R.slots) (hdg : decode cc pc = .ok (.invokestatic index, 3)) (hst : st0 = (as.map (tv ad)).reverse ++ rest)
    (kk : ∀ (v : Nat) (u : HT) (H1 : Heap) (locs1 : List Loc), Qq1 v u → v < 200 + hN u → PW D dA A s.heap ad u H1 locs1 → W p l e R s m args below meth c H1 locs1 cells slots Q (F0 m (pc + 3) ls (rv ad v :: rest))) : W p l e R s m args below meth c H locs cells slots Q (F0 m pc ls st0) := by
  subst hst
  exact va_callq (va_runS (As := as.map (tv ad)) (rest := rest) ⟨X.1, X.2.1, X.2.2.1, X.2.2.2.1, X.2.2.2.2.1⟩ hM cw ⟨cpc_blind, fun U hU hW => ph_start X hP as hU hW⟩ rfl (by rw [List.length_map]; exact hn) hl.1 rfl (lv_room (Nat.le_trans hrest h8)) hdg hroom) hP.2.2.1 (fun q _ hq => ph_free X hP q hq) (ph_free X hP) (fun r u t H1 locs1 ht hvm hq hB hz hk1 hS => by obtain ⟨v, rfl, hv, hq⟩ := hq; exact kk v u H1 locs1 hq hv (ph_after X hP hB ht hS))
end CALLS
