set_option maxRecDepth 100000
section CG3
variable {p : Program} {l : Launch} {e : Env} {R : Room} {s : State} {m : MethodId} {args : Array Value} {below : List Frame} {meth : Method} {c : Code}
/-- follows va_callSU of the kit, for a superclass's inherited method -/
theorem cz_callSU {T : State} {locs : List Loc} {cells slots : Nat} (X : Stand p l e R s m args below meth c T locs cells slots) (hexec : p.tables.exec = Jvm.exec) {own : String} {index : Nat} {x y : MethodName} {bytes : ByteArray} {maxL : Nat} {ret : Option FieldType}
    (hown : s.vm.findClass own = some m.cls) (hlink : (Cond.methodLink own index x).before args s = true) (hsame : (Cond.sameMethod x.cls y.cls x.name x.desc).before args s = true) (hsup : (Cond.superclass own x.cls).before args s = true) (hsup2 : (Cond.superclass x.cls y.cls).before args s = true) (hxn : x.name = y.name) (hxd : x.desc = y.desc)
    (hinst : (Cond.instanceMethod y).before args s = true) (hcode : (Cond.code y bytes maxL ret).before args s = true) (hno : y.name ≠ "<init>")
    {W : Nat} {Pre : Pt → Array Value → Prop} {Post : Pt → Array Value → Option Value → Pt → Prop} (hK : Back l R p e below s args y 3 W Pre Post)
    {b : Addr} {cellB : Cell} {kB : Class} (hcell : T.heap[b]? = some cellB) (hobj : cellB.vm.isStatics = false) (hkB : s.vm.classes[cellB.cls]? = some kB)
    {g : JFrame} (hg : g.method = m) (hsize : g.locals.size = c.maxLocals) {argsL rest : List Value} (hlen : ∀ sig, parseMethodDescriptor y.desc = some sig → argsL.length = sig.parameters.length)
    (hstack : g.stack = argsL.reverse ++ .ref b :: rest) (hW : 2 * g.monitorRoom + (rest.map fun v => v.category).sum ≤ W) (hdg : decode c.code g.pc = .ok (.invokespecial index, 3))
    (hpre : ∀ vm₁, s.WarmedH vm₁ → Pre ⟨T.setVm vm₁, locs, cells, slots⟩ (Value.ref b :: argsL).toArray) :
    ∃ (v : Option Value) (vm₁ : Vm) (B : Pt), s.WarmedH vm₁ ∧ Stand p l e R s m args below meth c B.U B.locs B.cells B.slots ∧ Post ⟨T.setVm vm₁, locs, cells, slots⟩ (Value.ref b :: argsL).toArray v B ∧
      ∀ target, Steps p.tables e below (B.U.setTop { g with pc := g.pc + 3, stack := v.toList ++ rest }) target → Steps p.tables e below (T.setTop g) target := by
  obtain ⟨mk, methM, hnamed, hmethM, hstM, habM⟩ := Cond.instanceMethod_spec hinst
  obtain ⟨methM', cM, hmethM', -, -, -, -, -, -, hsigM⟩ := Cond.code_spec hnamed hcode
  cases hmethM.symm.trans hmethM'
  obtain ⟨ps, dk, kp, hps, hdk, hkp, hsuper, -, -, hnid⟩ := Cond.superclass_spec hown hsup
  obtain ⟨ps2, dk2, kp2, hps2, hdk2, hkp2, hsuper2, -, -, -⟩ := Cond.superclass_spec hps hsup2
  have hn : s.methodNamed? ⟨y.cls, x.name, x.desc⟩ = some mk := by rw [hxn, hxd]; exact hnamed
  have hpm : ps2 = mk.cls := Option.some.inj (hps2.symm.trans (findClass_of_methodNamed hnamed))
  have hsub : s.vm.isSubclass ps mk.cls = true := by
    have h1 : ps < s.vm.classes.size := (Array.getElem?_eq_some_iff.mp hdk2).1
    rw [← hpm]
    unfold Vm.isSubclass
    have h3 : ∀ k : Nat, s.vm.isSubclassAux (k + 2) ps ps2 = true := fun k => by
      simp [Vm.isSubclassAux, hdk2, hsuper2]
    obtain ⟨k, hk⟩ : ∃ k, s.vm.classes.size = k + 1 := Nat.exists_eq_succ_of_ne_zero (Nat.ne_of_gt (Nat.lt_of_le_of_lt (Nat.zero_le _) h1))
    rw [hk]
    exact h3 k
  obtain ⟨vm₁, X₁, hstep₁⟩ := X.invokespecialUp hexec hown hlink hsame hn hmethM hstM habM (by rw [hxn]; exact hno) hdk hnid hps hsuper hsub (a := b) (cell := cellB) hcell
    (fun z h => by rw [h] at hobj; cases hobj) hkB (g := g) hg (argsL := argsL) (rest := rest) (hlen _ hsigM) hstack hdg
  obtain ⟨v, B, X', hpost, hsteps⟩ := hK m meth c ⟨T.setVm vm₁, locs, cells, slots⟩ { g with stack := rest } (.invokespecial index) mk (Value.ref b :: argsL).toArray X₁ hg hsize hdg hW (X₁.named hnamed) (hpre vm₁ X₁.warmed)
  exact ⟨v, vm₁, B, X₁.warmed, X', hpost, fun target h => hstep₁ _ (by rw [doInvoke_state]; exact hsteps.trans h)⟩
variable {H : Heap} {locs : List Loc} {cells slots : Nat}
theorem cz_runSU {x y : MethodName} {bytes cc : ByteArray} {maxL nL n index : Nat} {ret : Option FieldType} {rm : Room} {Pc : Array Value → State → Prop} {Qc : Array Value → State → Outcome → State → Prop} {free : Addr → Prop} {own C : String} {cC : ClassId} {b : Addr} {As rest : List Value} {g : JFrame}
    (hat : ClassAt s C cC) (S : CallFix p m c cc nL s args lw_all own) (hM : Met l y (ws_ y bytes maxL ret) rm Pc Qc 0 0 free)
    (hrc : rm.cells = 0) (hrs : rm.slots = 0) (hfr : rm.frames + 1 ≤ R.frames ∧ 8 + (maxL + 11) + rm.locals ≤ R.locals) (hl1 : Cond.methodLink own index x ∈ lw_all) (hl2 : Cond.sameMethod x.cls y.cls x.name x.desc ∈ lw_all) (hl3 : Cond.superclass own x.cls ∈ lw_all) (hl3' : Cond.superclass x.cls y.cls ∈ lw_all) (hxy : x.name = y.name ∧ x.desc = y.desc) (hl4 : Cond.instanceMethod y ∈ lw_all) (hini : Cond.initialized y.cls ∈ lw_all) (hcode : Cond.code y bytes maxL ret ∈ lw_all) (hno : y.name ≠ "<init>" ∧ (parseMethodDescriptor y.desc).map (fun d => d.parameters.length) = some n)
    (hp : PreV s H C b Pc As)
    (hg : g.method = m) (hn : As.length = n) (hsize : g.locals.size = nL) (hstack : g.stack = As.reverse ++ .ref b :: rest) (hW : 2 * g.monitorRoom + (rest.map fun v => v.category).sum ≤ 8) (hdg : decode cc g.pc = .ok (.invokespecial index, 3)) (hf : cells ≤ R.cells ∧ slots ≤ R.slots) :
    va_Run p l e R s m args below meth c H locs cells slots 0 0 g rest (Qc (Value.ref b :: As).toArray) (free) := by
  obtain ⟨hx, hb, hml, ho, hts⟩ := S
  have hK : Back l R p e below s args y 3 8 (PreOf R 0 0 Pc) (PostOf Qc 0 0 free) := back_of (bytes := bytes) (maxL := maxL) (ret := ret) hM hp.1 hrc hrs hfr.1 hfr.2 (pay_in hts (lw_meth hcode)) List.mem_cons_self (fun a' U hW => word_at hW (Or.inl (by first | rfl | simp [Cond.onTables, Cond.keeps, Cond.steady])) (hts _ hini))
  obtain ⟨-, ⟨cellB, hcB, hoB, hclB⟩, hPc⟩ := hp
  obtain ⟨hfc, kB, hkB, -⟩ := hat
  cases hfc.symm.trans hclB
  intro T hT X
  obtain ⟨v, vm₁, ⟨U', l2, c2, s2⟩, hW₁, X', ⟨g', mk, t, L, e1, e2, hq, h1, hL, h2, h3⟩, st⟩ := cz_callSU X hx (bytes := bytes) (maxL := maxL) (ret := ret) ho (hts _ hl1) (hts _ hl2) (hts _ hl3) (hts _ hl3') hxy.1 hxy.2 (hts _ hl4) (hts _ hcode) hno.1 hK (by rw [hT]; exact hcB) hoB hkB hg (hsize.trans hml.symm) (argsL := As) (rest := rest) (fun sig h => by
      have h2 := hno.2
      rw [h] at h2
      exact hn.trans (Option.some.inj h2).symm) hstack hW (by rw [hb]; exact hdg)
    (fun vm₁ hW₁ => ⟨hf.1, hf.2, hPc (T.setVm vm₁) hT hW₁⟩)
  dsimp only [Pt.U, Pt.locs, Pt.cells, Pt.slots] at X' e1 e2 h1 h2 h3 st
  subst h1; subst h2; subst h3
  exact ⟨v, (T.setVm vm₁).calling g' mk (Value.ref b :: As).toArray, t, U', L, hT, X', hL, e1, e2, hq, st⟩
theorem lw_SU {own : String} {idx : Nat} {y : MethodName} {b : ByteArray} {L : Nat} {r : Option FieldType} (h1 : Cond.methodLink own idx y ∈ lw_all) (h2 : Cond.sameMethod y.cls y.cls y.name y.desc ∈ lw_all) (h3 : Cond.superclass own y.cls ∈ lw_all) (h4 : Cond.instanceMethod y ∈ lw_all) (h5 : Cond.initialized y.cls ∈ lw_all) (h6 : Cond.code y b L r ∈ lw_all) : GoodIn lw_all (va_wsSU own idx y (ws_ y b L r)) := by
  refine lw_app ?_ (lw_meth h6)
  intro w hw
  simp only [List.mem_cons, List.not_mem_nil, or_false] at hw
  rcases hw with e | e | e | e | e <;> rw [e] <;> assumption
theorem lw_U {own C owner : String} {idx : Nat} {x y : MethodName} {b : ByteArray} {L : Nat} {r : Option FieldType} (h1 : Cond.methodLink own idx x ∈ lw_all) (h2 : Cond.sameMethod x.cls owner x.name x.desc ∈ lw_all) (h3 : Cond.selects C x y ∈ lw_all) (h4 : Cond.instanceMethod y ∈ lw_all) (h5 : Cond.initialized y.cls ∈ lw_all) (h6 : Cond.code y b L r ∈ lw_all) : GoodIn lw_all (va_wsU own idx C owner x y (ws_ y b L r)) := by
  refine lw_app ?_ (lw_meth h6)
  intro w hw
  simp only [List.mem_cons, List.not_mem_nil, or_false] at hw
  rcases hw with e | e | e | e | e <;> rw [e] <;> assumption
theorem lw_O {own C owner : String} {idx : Nat} {x y : MethodName} {b : ByteArray} {L : Nat} {r : Option FieldType} (h1 : Cond.methodLink own idx x ∈ lw_all) (h2 : Cond.sameMethod x.cls owner x.name x.desc ∈ lw_all) (h0 : Cond.instanceMethod ⟨owner, x.name, x.desc⟩ ∈ lw_all) (h3 : Cond.selects C x y ∈ lw_all) (h4 : Cond.instanceMethod y ∈ lw_all) (h5 : Cond.initialized y.cls ∈ lw_all) (h6 : Cond.code y b L r ∈ lw_all) : GoodIn lw_all (va_wsO own idx C owner x y (ws_ y b L r)) := by
  refine lw_app ?_ (lw_meth h6)
  intro w hw
  simp only [List.mem_cons, List.not_mem_nil, or_false] at hw
  rcases hw with e | e | e | e | e | e <;> rw [e] <;> assumption
end CG3
section CG4
variable {p : Program} {l : Launch} {e : Env} {R : Room} {s : State} {m : MethodId} {args : Array Value} {below : List Frame} {meth : Method} {c : Code} {H : Heap} {locs : List Loc} {cells slots : Nat} {Q : State → Prop}
variable {cc : ByteArray} {nL pc : Nat} {ret : Option FieldType} {ls : Array Slot} {rest : List Value} {D : va_G} {dA : Nat → ClassId} {ad : Nat → Nat} {A : Nat → Prop} {h : HT} {own : String} {pl : Nat} {lv : List (Nat × TV)}
variable {g : GT} {ι : S} {Q1 : Int32 → S → Prop} {x y : MethodName} {bytes : ByteArray} {maxL nA index N : Nat} {rt : FieldType} {rm : Room} {C : String} {T : u_T} {st0 : List Value}
theorem cg_callY (ci : Nat) (as : List TV) (X : CX p s m args c meth cc nL ret own D dA ad A) (hP : PW D dA A s.heap ad (HS g ι) H locs) (hk : gK g pl = ci + 1) (hM : CGi l y bytes maxL rt rm D dA ad g ι H.size (pX pl :: as) Q1)
    (hrc : rm.cells = 0) (hrs : rm.slots = 0) (hfr : rm.frames + 1 ≤ R.frames ∧ 8 + (maxL + 11) + rm.locals ≤ R.locals) (hl1 : Cond.methodLink own index x ∈ lw_all) (hl2 : Cond.sameMethod x.cls y.cls x.name x.desc ∈ lw_all) (hl3 : Cond.superclass own x.cls ∈ lw_all) (hl3' : Cond.superclass x.cls y.cls ∈ lw_all) (hxy : x.name = y.name ∧ x.desc = y.desc) (hl4 : Cond.instanceMethod y ∈ lw_all) (hini : Cond.initialized y.cls ∈ lw_all) (hcode : Cond.code y bytes maxL (some rt) ∈ lw_all) (hno : y.name ≠ "<init>" ∧ (parseMethodDescriptor y.desc).map (fun d => d.parameters.length) = some nA)
    (hn : as.length = nA) (hl : LH ad ls nL lv) {k8 : Nat} (hrest : (rest.map fun v => v.category).sum ≤ k8) (h8 : k8 ≤ 8) (hroom : cells ≤ R.cells ∧ slots ≤ R.slots) (hdg : decode cc pc = .ok (.invokespecial index, 3)) (hst : st0 = (as.map (tv ad)).reverse ++ rv ad pl :: rest)
    (kk : ∀ (r : Int32) (ι' : S) (H1 : Heap) (locs1 : List Loc), Q1 r ι' → PW D dA A s.heap ad (HS g ι') H1 locs1 → W p l e R s m args below meth c H1 locs1 cells slots Q (F0 m (pc + 3) ls (.int r :: rest))) (hci : ci < 99 := by exact Nat.le_of_ble_eq_true rfl) (hc : CL[ci]? = some (C, T, N) := by rfl) : W p l e R s m args below meth c H locs cells slots Q (F0 m pc ls st0) := by
  subst hst
  have e : rv ad pl = .ref (ad pl) := rv_nz (pl_nz hP.2.2.2 (pl := pl) (ci := ci + 1) hk (by omega) (by omega))
  have hst : ∀ U : State, U.heap = H → s.WarmedH U.vm → CPc D dA ad (HS g ι) H.size (pX pl :: as) (Value.ref (ad pl) :: as.map (tv ad)).toArray U := fun U hU hW => by
    have := ph_start X hP (pX pl :: as) hU hW
    rw [List.map_cons, show tv ad (pX pl) = rv ad pl from rfl, e] at this
    exact this
  rw [e]
  exact va_calli (cz_runSU (As := as.map (tv ad)) (rest := rest) (X.2.2.2.2.2.2.1.1.1 ci _ hc).2 ⟨X.1, X.2.1, X.2.2.1, X.2.2.2.1, X.2.2.2.2.1⟩ hM hrc hrs hfr hl1 hl2 hl3 hl3' hxy hl4 hini hcode hno ⟨cpc_blind, ph_recv X hP hk hci hc, hst⟩ rfl (by rw [List.length_map]; exact hn) hl.1 rfl (lv_room (Nat.le_trans hrest h8)) hdg hroom) hP.2.2.1 (fun q _ hq => ph_free X hP q hq) (ph_free X hP) (fun r u t H1 locs1 ht hvm hq hB hz hk1 hS => by obtain ⟨ι', rfl, hq⟩ := hq; exact kk r ι' H1 locs1 hq (ph_after X hP hB ht hS))
theorem cg_getSl (k : Nat) {index : Nat} (X : CX p s m args c meth cc nL ret own D dA ad A) (hP : PW D dA A s.heap ad (HS g ι) H locs) (hk : isSl (gK g pl)) (hlink : Cond.fieldLink own index RX16 (TX16 k).2.1 (TX16 k).2.2.1 ∈ lw_all) (hdg : decode cc pc = .ok (.getfield index, 3))
    (kk : W p l e R s m args below meth c H locs cells slots Q (F0 m (pc + 3) ls (.int (ι pl k) :: rest))) (hk6 : k < 6 := by exact Nat.le_of_ble_eq_true rfl) (h17 : TX17 k = TX16 k := by rfl) (h18 : TX18 k = TX16 k := by rfl) (h19 : TX19 k = TX16 k := by rfl) (hf13 : (fT 13)[k]? = some false := by rfl) (hf14 : (fT 14)[k]? = some false := by rfl) (hf15 : (fT 15)[k]? = some false := by rfl) (hf16 : (fT 16)[k]? = some false := by rfl) (hr : (TX16 k).1 = RX16 := by rfl) : W p l e R s m args below meth c H locs cells slots Q (F0 m pc ls (rv ad pl :: rest)) := by
  rcases hk with h | h | h | h
  · exact cg_geti 13 k X in_X16 hP h hlink hdg kk (Nat.le_of_ble_eq_true rfl) rfl hk6 hf13 hr
  · exact cg_geti 14 k X in_X17 hP h (by rw [h17]; exact hlink) hdg kk (Nat.le_of_ble_eq_true rfl) rfl hk6 hf14 (by rw [h17]; exact hr)
  · exact cg_geti 15 k X in_X18 hP h (by rw [h18]; exact hlink) hdg kk (Nat.le_of_ble_eq_true rfl) rfl hk6 hf15 (by rw [h18]; exact hr)
  · exact cg_geti 16 k X in_X19 hP h (by rw [h19]; exact hlink) hdg kk (Nat.le_of_ble_eq_true rfl) rfl hk6 hf16 (by rw [h19]; exact hr)
theorem cg_castSl {index : Nat} (X : CX p s m args c meth cc nL ret own D dA ad A) (hP : PW D dA A s.heap ad (HS g ι) H locs) (hk : isSl (gK g pl)) (hlink : Cond.classLink own index RX16 ∈ lw_all) (hdg : decode cc pc = .ok (.checkcast index, 3))
    (kk : W p l e R s m args below meth c H locs cells slots Q (F0 m (pc + 3) ls (rv ad pl :: rest))) : W p l e R s m args below meth c H locs cells slots Q (F0 m pc ls (rv ad pl :: rest)) := by
  rcases hk with h | h | h | h
  · exact cg_castS 13 X hP h hlink hdg kk
  · exact cg_cast 14 X hP h hlink q2397 hdg kk
  · exact cg_cast 15 X hP h hlink q2398 hdg kk
  · exact cg_cast 16 X hP h hlink q2399 hdg kk
end CG4
