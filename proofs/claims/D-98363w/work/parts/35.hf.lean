set_option maxRecDepth 100000
def freshM (H : Heap) (q : Nat) : Prop := ∃ cell : Cell, H[q]? = some cell ∧ cell.monitor.owner = none ∧ cell.monitor.count = 0
def CPcF (D : va_G) (dA : Nat → ClassId) (ad : Nat → Nat) (h : HT) (sz : Nat) (pl : Nat) (as : List TV) : Array Value → State → Prop := fun a U => CPc D dA ad h sz (pX pl :: as) a U ∧ freshM U.heap (ad pl)
theorem cpcF_blind {D : va_G} {dA : Nat → ClassId} {ad : Nat → Nat} {h : HT} {sz pl : Nat} {as : List TV} : FrameBlind (CPcF D dA ad h sz pl as) := fun a U g mk q => ⟨cpc_blind _ _ _ _ q.1, q.2⟩
abbrev CHFv (l : Launch) (y : MethodName) (cc : ByteArray) (nL : Nat) (rm : Room) (D : va_G) (dA : Nat → ClassId) (ad : Nat → Nat) (g : GT) (ι : S) (sz : Nat) (pl : Nat) (as : List TV) (Q : GT → S → Prop) (mc ms : Nat) : Prop := Met l y (ws_ y cc nL none) rm (CPcF D dA ad (HS g ι) sz pl as) (HPv D dA ad g (AF dA ad (HS g ι) sz) Q) mc ms (AF dA ad (HS g ι) sz)
theorem ph_enterF {l : Launch} {y : MethodName} {cc : ByteArray} {nL : Nat} {ret : Option FieldType} {rm : Room} {D : va_G} {dA : Nat → ClassId} {ad : Nat → Nat} {h : HT} {sz mc ms pl : Nat} (as : List TV) {Qc : (Nat → Prop) → Array Value → State → Outcome → State → Prop} (hy : plainName y.cls = true) (hlen : ((pX pl :: as).map fun x => if tl x = true then 2 else 1).sum ≤ nL)
    (body : ∀ (p : Program) (e : Env) (s : State) (m : MethodId) (args : Array Value) (below : List Frame) (meth : Method) (c : Code) (A : Nat → Prop) (ls : Array Slot), CX p s m args c meth cc nL ret y.cls D dA ad A → PW D dA A s.heap ad h s.heap [] → LH ad ls nL (targs 0 (pX pl :: as)) → meth.name = y.name → freshM s.heap (ad pl) → W p l e rm s m args below meth c s.heap [] 0 0 (MQ below (Qc A) args s mc ms A) (F0 m 0 ls [])) :
    Met l y (ws_ y cc nL ret) rm (CPcF D dA ad h sz pl as) (Qc (AF dA ad h sz)) mc ms (AF dA ad h sz) := by
  refine Met.ofW (cc := cc) (maxL := nL) (ret := ret) hy rfl ?_
  intro p e s m args below meth c s₁ B hml hv
  obtain ⟨⟨rfl, hsz, hP, hD0, hw, hkb⟩, hfr⟩ := hv
  have hts := atoms_spec (ws := ws_ y cc nL ret) B.pre
  have hts : ∀ w ∈ lw_all, w.before _ s = true := fun w h => hts w (List.mem_cons_of_mem _ h)
  have hown : s.vm.findClass y.cls = some m.cls := findClass_of_methodNamed B.named
  have hnm : meth.name = y.name := (name_of_methodNamed B.named B.method).1
  subst hsz
  have hl := lv_entry ((pX pl :: as).map (tv ad)) (n := nL) (by rw [lg_tsl]; exact hlen)
  rw [targs_map] at hl
  rw [lg_entry_eq]
  exact body p e s m _ below meth c (AF dA ad h s.heap.size) _ ⟨B.exec, B.bytes, hml, hown, hts, fun q hq => Or.inr hq, hkb, B.returns, B.notSynchronized⟩ ⟨hP, hD0.self, va_S.rf, hw⟩ hl hnm hfr
def hfAtoms : List Cond := Bundle.throwableAtoms ++ Bundle.chain0Atoms "java/lang/Exception" [] ++ [.selects "SpoonRow$Fault" Bundle.tFill0 Bundle.tFill0, .selects "SpoonRow$Fault" Bundle.tFill Bundle.tFill, .lays "SpoonRow$Fault" Bundle.tN "cause" "Ljava/lang/Throwable;", .lays "SpoonRow$Fault" Bundle.tN "stackTrace" Bundle.steD, .lays "SpoonRow$Fault" Bundle.tN "suppressedExceptions" Bundle.listD, .lays "SpoonRow$Fault" Bundle.tN "detailMessage" "Ljava/lang/String;", .fieldLink Bundle.tN 198 Bundle.tN "backtrace" "Ljava/lang/Object;", .lays Bundle.tN Bundle.tN "backtrace" "Ljava/lang/Object;", .lays "SpoonRow$Fault" Bundle.tN "backtrace" "Ljava/lang/Object;"]
theorem hf_ps : hfAtoms.filter vx_no = [103, 192, 201, 205, 208, 210, 193, 194, 146, 147, 195, 200, 206, 446, 182, 447, 184, 448, 186, 196, 198, 188, 1172, 1173, 1174, 193, 177, 1307, 203, 1308, 1309, 1310, 1311, 191, 190, 1312].filterMap (fun i => lw_tbl[i]?) := by rfl
theorem hf_pg : (hfAtoms.filter vx_no).all (fun w => goodWord w || (nestW w && w.onTables)) = true := by decide +kernel
section HFR
variable {p : Program} {l : Launch} {e : Env} {R : Room} {s : State} {m : MethodId} {args : Array Value} {below : List Frame} {meth : Method} {c : Code} {H : Heap} {locs : List Loc} {cells slots : Nat} {Q : State → Prop}
variable {cc : ByteArray} {nL pc : Nat} {ret : Option FieldType} {ls : Array Slot} {rest : List Value} {D : va_G} {dA : Nat → ClassId} {ad : Nat → Nat} {A : Nat → Prop} {h : HT} {own : String} {pl : Nat} {lv : List (Nat × TV)}
variable {g g0 : GT} {ι : S} {st0 : List Value} {ad0 : Nat → Nat}
theorem hf_at (X : CX p s m args c meth cc nL ret own D dA ad A) : ∀ a ∈ hfAtoms, a.before args s = true :=
  vx_own (at_ok _ hf_ps hf_pg X.2.2.2.2.1 X.2.2.2.2.2.2.1.2.1) (vx_isRefq X.2.2.2.2.2.2.1.2.2.2.2.2.2.2.2.2.1.1) (vx_isRefq X.2.2.2.2.2.2.1.2.2.2.2.2.2.2.2.2.2.1.1) (vx_L.word X.2.2.2.2.2.2.1.2.2.2.2.2.2.2.2.2.1.2) (vx_L.word X.2.2.2.2.2.2.1.2.2.2.2.2.2.2.2.2.2.1.2)
theorem hf_super {index : Nat} {P : GT → Prop} (X : CX p s m args c meth cc nL ret "SpoonRow$Fault" D dA ad A) (hP : PW D dA A s.heap ad (HS g ι) H locs) (hl : LH ad ls nL lv) (hlt : l.stackTraces = false) (hk : gK g pl = 9) (hb : gR g pl 4 = 0) (hfr : freshM H (ad pl)) (hlink : Cond.methodLink "SpoonRow$Fault" index ⟨"java/lang/Exception", "<init>", "()V"⟩ ∈ lw_all) (hRR : 8 ≤ R.frames ∧ 160 ≤ R.locals) (hdg : decode cc pc = .ok (.invokespecial index, 3)) (hF : ∀ w1 w2 g', (w1 = 0 ∨ w1 = 132) → (w2 = 0 ∨ w2 = 133) → g' = setga g pl (fun k => if k = 0 then pl else if k = 1 then w1 else if k = 2 then w2 else gR g pl k) → P g')
    (kk : ∀ (H1 : Heap) (locs1 : List Loc) (g' : GT), PW D dA A s.heap ad (HS g' ι) H1 locs1 → gN g' = gN g ∧ gK g' = gK g ∧ gL g' = gL g → P g' → W p l e R s m args below meth c H1 locs1 cells slots Q (F0 m (pc + 3) ls [])) : W p l e R s m args below meth c H locs cells slots Q (F0 m pc ls [rv ad pl]) := by
  have hk9 : hK (HS g ι) pl = 9 := hk
  have hlv := wfh_live hP.2.2.2 hk9 (by omega) (by omega)
  rw [rv_nz (by omega)]
  have h := hf_at X
  obtain ⟨r9, e9, cell, c1, c2, c3, c4⟩ := hP.1 (pl - 200) _ (ent_o hP.2.2.2 hk9 (by omega))
  obtain ⟨cell', d1, d2, d3⟩ := hfr
  cases c1.symm.trans d1
  have er : r9 = (RX10, TX10, 8) := Option.some.inj (e9.symm.trans rfl)
  subst er
  have hKn := X.2.2.2.2.2.2.1.1.1 8 _ e9
  have hfound : s.vm.findClass "SpoonRow$Fault" = some cell.cls := hKn.2.1.trans (congrArg some c2.symm)
  intro T hT Y
  have howns : e.platform.frameOwnsMonitors = true := by rw [Y.admits.platform]
  have hfin : e.platform.finalization = false := by rw [Y.admits.platform]
  have hpl9 : e.platform.magicAccessors = ({} : Platform).magicAccessors := by rw [Y.admits.platform]
  have a' : ∀ x, x ∈ hfAtoms → x.holds args s none s [] = true := fun x hx => h x hx
  obtain ⟨T1, Z, L, LZ, Ti⟩ := ThrowableC.of_atoms (args := args) howns hfin hpl9 (fun x hx => h x (by simp [hfAtoms, hx]))
  obtain ⟨P1, Ps, hlen, L1, hL, hP1m, hlink1, hlinks⟩ := Bundle.chain0 (args := args) hpl9 Ti.init0 [] "java/lang/Exception" (by decide +kernel) (fun n hn => by cases hn) (fun x hx => h x (by simp [hfAtoms, hx]))
  have hsel0 : selectMethod e.platform s.vm cell.cls T1.fill0 = .method T1.fill0 := by
    obtain ⟨c2', r2, m2, q1, q2, q3, q4, -⟩ := Cond.selects_spec (a' (.selects "SpoonRow$Fault" Bundle.tFill0 Bundle.tFill0) (by simp [hfAtoms]))
    cases Option.some.inj (q1.symm.trans hfound)
    cases Option.some.inj (q2.symm.trans (State.methodFound?_of_named Ti.fill0 (by decide)))
    cases Option.some.inj (q3.symm.trans Ti.fill0)
    rw [Launch.admits_selectMethod Y.admits]; exact q4
  have hselF : selectMethod e.platform s.vm cell.cls T1.fill = .method T1.fill := by
    obtain ⟨c2', r2, m2, q1, q2, q3, q4, -⟩ := Cond.selects_spec (a' (.selects "SpoonRow$Fault" Bundle.tFill Bundle.tFill) (by simp [hfAtoms]))
    cases Option.some.inj (q1.symm.trans hfound)
    cases Option.some.inj (q2.symm.trans (State.methodFound?_of_named Ti.fill (by decide)))
    cases Option.some.inj (q3.symm.trans Ti.fill)
    rw [Launch.admits_selectMethod Y.admits]; exact q4
  obtain ⟨cellS0, hcS0, hiss⟩ := Ti.statics
  obtain ⟨u0, hu0⟩ := Cond.staticRefV Ti.unassigned L.unassignedStatic L.statics hcS0 hiss (vx_isRefq (args := args) X.2.2.2.2.2.2.1.2.2.2.2.2.2.2.2.2.1.1)
  obtain ⟨sen, hsen⟩ := Cond.staticRefV Ti.sentinel L.sentinelStatic L.statics hcS0 hiss (vx_isRefq (args := args) X.2.2.2.2.2.2.1.2.2.2.2.2.2.2.2.2.2.1.1)
  obtain ⟨ci198, i198, fB, hk198, hg198, ha198, hsB, -, hnB, htB, hffB⟩ := Cond.ownField (t := .object "java/lang/Object") Ti.found L.cls (by decide +kernel) (a' (.fieldLink Bundle.tN 198 Bundle.tN "backtrace" "Ljava/lang/Object;") (by simp [hfAtoms])) (a' (.lays Bundle.tN Bundle.tN "backtrace" "Ljava/lang/Object;") (by simp [hfAtoms])) e.platform hpl9
  obtain ⟨kX, hkX, hord⟩ := hKn.2.2
  rw [← c2] at hkX
  obtain ⟨tyC, dC, hdC, hdnC⟩ := Cond.laysAt hfound hkX Ti.cause (a' (.lays "SpoonRow$Fault" Bundle.tN "cause" "Ljava/lang/Throwable;") (by simp [hfAtoms]))
  obtain ⟨tyS, dS, hdS, hdnS⟩ := Cond.laysAt hfound hkX Ti.stack (a' (.lays "SpoonRow$Fault" Bundle.tN "stackTrace" Bundle.steD) (by simp [hfAtoms]))
  obtain ⟨tyP, dP, hdP, hdnP⟩ := Cond.laysAt hfound hkX Ti.supp (a' (.lays "SpoonRow$Fault" Bundle.tN "suppressedExceptions" Bundle.listD) (by simp [hfAtoms]))
  obtain ⟨tyB, dB, hdB, hdnB⟩ := Cond.laysAt hfound hkX hffB (a' (.lays "SpoonRow$Fault" Bundle.tN "backtrace" "Ljava/lang/Object;") (by simp [hfAtoms]))
  have slC : T1.fCause.slot = D.2 8 0 := by
    obtain ⟨cf, kf, fi, fd, q1, q2⟩ := hKn.1 0 (by decide)
    have := Option.some.inj (q1.symm.trans Ti.cause)
    rw [← q2]
    exact (congrArg (fun x => x.2.2.2.slot) this).symm
  have slS : T1.fStack.slot = D.2 8 1 := by
    obtain ⟨cf, kf, fi, fd, q1, q2⟩ := hKn.1 1 (by decide)
    have := Option.some.inj (q1.symm.trans Ti.stack)
    rw [← q2]
    exact (congrArg (fun x => x.2.2.2.slot) this).symm
  have slP : T1.fSupp.slot = D.2 8 2 := by
    obtain ⟨cf, kf, fi, fd, q1, q2⟩ := hKn.1 2 (by decide)
    have := Option.some.inj (q1.symm.trans Ti.supp)
    rw [← q2]
    exact (congrArg (fun x => x.2.2.2.slot) this).symm
  have slB : fB.slot = D.2 8 4 := by
    obtain ⟨cf, kf, fi, fd, q1, q2⟩ := hKn.1 4 (by decide)
    have := Option.some.inj (q1.symm.trans hffB)
    rw [← q2]
    exact (congrArg (fun x => x.2.2.2.slot) this).symm
  have bC := Cond.laysApart hdB hdC hdnB hdnC (by rw [hnB, Ti.causeName]; decide)
  have bS := Cond.laysApart hdB hdS hdnB hdnS (by rw [hnB, Ti.stackName]; decide)
  have bP := Cond.laysApart hdB hdP hdnB hdnP (by rw [hnB, Ti.suppName]; decide)
  have slap := va_apart (own := "SpoonRow$Fault") X.2.2.2.2.1 in_X10 tyX10 tyX10_ok nmX10 X.2.2.2.2.2.2.1.1 e9
  have hne : T1.aS ≠ ad pl ∧ H[T1.aS]? = some cellS0 := by
    obtain ⟨w, hw, cf, kf, fi, f, a, cS, g1, g2, g3, g4, g5, g6, g7, g8⟩ := X.2.2.2.2.2.2.1.2.2.2.2.2.2.2.2.2.2.2.2.2.2.2.2.1
    have e := Option.some.inj (g1.symm.trans Ti.unassigned)
    have ek : kf = T1.kT := congrArg (fun x => x.2.1) e
    have ea : a = T1.aS := Option.some.inj (g4.symm.trans (by rw [ek]; exact L.statics))
    subst ea
    refine ⟨fun e => g8 (by rw [e]; exact hP.2.1.2 (pl - 200) _ (ent_o hP.2.2.2 hk9 (by omega))), ?_⟩
    rw [hP.2.2.1.2.1 _ (Array.getElem?_eq_some_iff.mp hcS0).1 g8]
    exact hcS0
  obtain ⟨w1, hw1, ew1⟩ : ∃ w1, (w1 = 0 ∨ w1 = 132) ∧ u0.v = rv ad w1 := by
    obtain ⟨w, hw, cf, kf, fi, f, a, cS, g1, g2, g3, g4, g5, g6, g7, g8⟩ := X.2.2.2.2.2.2.1.2.2.2.2.2.2.2.2.2.2.2.2.2.2.2.2.1
    have e := Option.some.inj (g1.symm.trans Ti.unassigned)
    have ek : kf = T1.kT := congrArg (fun x => x.2.1) e
    have ef : f = T1.fUnassigned := congrArg (fun x => x.2.2.2) e
    have ea : a = T1.aS := Option.some.inj (g4.symm.trans (by rw [ek]; exact L.statics))
    subst ea ef
    cases g5.symm.trans hcS0
    exact ⟨w, hw, Option.some.inj (hu0.symm.trans g7)⟩
  obtain ⟨w2, hw2, ew2⟩ : ∃ w2, (w2 = 0 ∨ w2 = 133) ∧ sen.v = rv ad w2 := by
    obtain ⟨w, hw, cf, kf, fi, f, a, cS, g1, g2, g3, g4, g5, g6, g7, g8⟩ := X.2.2.2.2.2.2.1.2.2.2.2.2.2.2.2.2.2.2.2.2.2.2.2.2
    have e := Option.some.inj (g1.symm.trans Ti.sentinel)
    have ek : kf = T1.kT := congrArg (fun x => x.2.1) e
    have ef : f = T1.fSentinel := congrArg (fun x => x.2.2.2) e
    have ea : a = T1.aS := Option.some.inj (g4.symm.trans (by rw [ek]; exact L.statics))
    subst ea ef
    cases g5.symm.trans hcS0
    exact ⟨w, hw, Option.some.inj (hsen.symm.trans g7)⟩
  have szf : ∀ k, k < 8 → D.2 8 k < cell.slots.size := fun k hk => (Array.getElem?_eq_some_iff.mp (c4 k hk)).1
  have tk : ∀ (f : Field) (v : Value) (k : Nat), k < 8 → f.slot = D.2 8 k → kX.instanceTypes[f.slot]? = some f.type → fits f.type v = true → Takes s cell f v := by
    intro f v k hk hs hty hv
    refine ⟨by rw [hs]; exact szf k hk, ?_⟩
    rw [c3]
    simp [State.fitsSlot, State.slotType?, hkX, hord, hty, hv]
  have hcellT : T.heap[ad pl]? = some cell := by rw [hT]; exact c1
  have nb : rv ad (gR g pl 4) = .null := by rw [hb]; rfl
  have hback : cell.slots[fB.slot]? = some .null := by
    rw [slB, c4 4 (by decide), ← nb]
    rfl
  have hskip : SkipFacts T1 e.platform s (fun u => u) u0 ((preparedCellV T1.toThrowableT cell (ad pl) u0 sen).withEntry T.cur) :=
    ⟨{ ci198 := ci198, i198 := i198, fBack := fB }, ⟨hk198, hg198, ha198, hsB⟩, by
      have := hback
      simpa [preparedCellV, Cell.setSlot, Cell.withEntry, Array.getElem?_setIfInBounds, bC, bS, bP, bC.symm, bS.symm, bP.symm] using this, fun _ _ => rfl⟩
  have htr : e.platform.stackTraces = false := (show e.platform.stackTraces = l.stackTraces by rw [Y.admits.platform]).trans hlt
  obtain ⟨tm, methC, cdC, kC, vm₁, hnC, -, -, -, -, -, -, -, hW₁, st1⟩ := Steps.initCold (tb := p.tables) (e := e) (below := below) (s := s) (U := T) Y.here X.1 Y.warmed hpl9 X.2.2.2.1 (t := Bundle.init0 "java/lang/Exception") rfl rfl (by decide)
    (X.2.2.2.2.1 _ hlink) (h (.instanceMethod (Bundle.init0 "java/lang/Exception")) (by simp [hfAtoms, Bundle.chain0Atoms, Bundle.passAtoms])) (bytes := Bundle.five) (maxL := 1) (h (.code (Bundle.init0 "java/lang/Exception") Bundle.five 1 none) (by simp [hfAtoms, Bundle.chain0Atoms, Bundle.passAtoms]))
    (f := F0 m pc ls [.ref (ad pl)]) rfl (a := ad pl) (rest := []) rfl (by rw [X.2.1]; exact hdg)
  cases Option.some.inj (hnC.symm.trans hP1m)
  have X₁ := Y.noted hW₁
  obtain ⟨vm₂, X₂, st2⟩ := X₁.ctorPlainOffV X.1 (g := F0 m pc ls []) rfl (hl.1.trans X.2.2.1.symm) T1 L Z LZ (P1 :: Ps)
    (fun P hP => by rcases List.mem_cons.mp hP with rfl | hP; exact L1; exact hL P hP) ⟨hlink1, hlinks⟩ (u0 := u0) (sen := sen) (self := ad pl) (cell := cell) (cellS := cellS0)
    hcellT (fun _ => by rw [c3]; simp) (by rw [c3]; simp) d2 d3 hsel0 hselF (by show T.heap[T1.aS]? = _; rw [hT]; exact hne.2) hne.1 (by intro e; rw [e] at hiss; cases hiss) hu0 hsen
    (tk _ _ 0 (by decide) slC tyC (by rw [Ti.causeType]; rfl)) (tk _ _ 1 (by decide) slS tyS (by rw [Ti.stackType]; exact fits_refV_array _ u0)) (tk _ _ 2 (by decide) slP tyP (by rw [Ti.suppType]; exact fits_refV_object _ sen)) Ti.objLocals hskip htr [] (by rw [X.2.1]; exact hdg)
    (by simp only [List.length_cons, hlen, List.length_nil]; omega) (by simp only [List.length_cons, hlen, List.length_nil, F0, JFrame.monitorRoom, List.map_nil, List.sum_nil]; omega)
  generalize hce : (preparedCellV T1.toThrowableT cell (ad pl) u0 sen).setSlot T1.fStack.slot u0.v = ce at X₂ st2
  have hap : (ad pl) < T.heap.size := (Array.getElem?_eq_some_iff.mp hcellT).1
  have hce1 : ce.cls = cell.cls ∧ ce.vm = cell.vm := by rw [← hce]; exact ⟨rfl, rfl⟩
  have hsl : ∀ k, k < 8 → ce.slots[D.2 8 k]? = some (vp_V (mkF ad (hI (HS g ι) pl) (fun k => if k = 0 then pl else if k = 1 then w1 else if k = 2 then w2 else gR g pl k) (fT 8) 0) k) := by
    have z1 := t_set c4 slap (k := 0) (by decide) (.ref (ad pl))
    have z2 := t_set z1 slap (k := 1) (by decide) u0.v
    have z3 := t_set z2 slap (k := 2) (by decide) sen.v
    have z4 := t_set z3 slap (k := 1) (by decide) u0.v
    have hc5 : ce = (((cell.setSlot (D.2 8 0) (.ref (ad pl))).setSlot (D.2 8 1) u0.v).setSlot (D.2 8 2) sen.v).setSlot (D.2 8 1) u0.v := by rw [← hce]; unfold preparedCellV; rw [slC, slS, slP]
    intro k hk
    rw [hc5, z4 k hk, ew1, ew2]
    have e0 : rv ad pl = .ref (ad pl) := rv_nz (by omega)
    match k, hk with
    | 0, _ => exact congrArg some e0.symm
    | 1, _ => rfl
    | 2, _ => rfl
    | 3, _ => rfl
    | 4, _ => rfl
    | 5, _ => rfl
    | 6, _ => rfl
    | 7, _ => rfl
  generalize hV : (((T.setVm vm₁).setVm vm₂).setCell (ad pl) ce) = V at X₂ st2
  have hV1 : V.heap[ad pl]? = some ce := by rw [← hV]; exact heapAt_setCell_self (s := (T.setVm vm₁).setVm vm₂) ce hap
  have hV2 : ∀ q, q ≠ ad pl → V.heap[q]? = H[q]? := by
    intro q hq
    rw [← hV, ← hT]
    exact heapAt_setCell_ne (s := (T.setVm vm₁).setVm vm₂) ce (Ne.symm hq)
  have hsz : V.heap.size = H.size := by
    rw [← hV, ← hT]
    show (T.heap.setIfInBounds (ad pl) ce).size = _
    simp
  have hE := ent_o (ad := ad) (dA := dA) hP.2.2.2 hk9 (by omega)
  have hA9 : A (ad pl) := hP.2.1.2 _ _ hE
  have he9 : (PL dA ad (HS g ι)).set (pl - 200) (ad pl, .inr (8, mkF ad (hI (HS g ι) pl) (fun k => if k = 0 then pl else if k = 1 then w1 else if k = 2 then w2 else gR g pl k) (fT 8) 0)) = PL dA ad (HS (setga g pl (fun k => if k = 0 then pl else if k = 1 then w1 else if k = 2 then w2 else gR g pl k)) ι) := by
    refine PL_set hlv.1 hlv.2 rfl (fun q hq => entv_ext rfl rfl rfl (if_neg hq)) ?_
    refine (entv_o (c := 8) (show hK (HS (setga g pl _) ι) pl = 8 + 1 from hk9) (by omega)).trans ?_
    rw [show hR (HS (setga g pl (fun k => if k = 0 then pl else if k = 1 then w1 else if k = 2 then w2 else gR g pl k)) ι) pl = _ from if_pos rfl]
    rfl
  have hbd := hP.2.2.2.2.2.1
  have hPW : PW D dA A s.heap ad (HS (setga g pl (fun k => if k = 0 then pl else if k = 1 then w1 else if k = 2 then w2 else gR g pl k)) ι) V.heap (locs ++ [⟨ad pl, T1.fCause.slot⟩, ⟨ad pl, T1.fStack.slot⟩, ⟨ad pl, T1.fSupp.slot⟩, ⟨ad pl, T1.fStack.slot⟩]) := by
    refine ⟨?_, ?_, ?_, ?_⟩
    · rw [← he9]
      exact hP.1.set hP.2.1 hE ⟨_, e9, ce, hV1, hce1.1.trans c2, hce1.2.trans c3, hsl⟩ hV2
    · rw [← he9]
      exact hP.2.1.set hE
    · refine ⟨by rw [hsz]; exact hP.2.2.1.1, fun q h1 h2 => ?_, fun y hy => ?_⟩
      · rw [hV2 q (fun e => h2 (by rw [e]; exact hA9))]
        exact hP.2.2.1.2.1 q h1 h2
      · rcases List.mem_append.mp hy with hy | hy
        · exact hP.2.2.1.2.2 y hy
        · simp only [List.mem_cons, List.not_mem_nil, or_false] at hy
          rcases hy with rfl | rfl | rfl | rfl <;> exact hA9
    · refine wfh_setRA (h := HS g ι) hP.2.2.2 hlv.1 (fun j => ?_)
      have b3 := hbd pl j
      have hn : 0 ≤ hN (HS g ι) := Nat.zero_le _
      split
      · exact hlv.2
      · split
        · omega
        · split
          · omega
          · exact b3
  obtain ⟨t, a1, b1⟩ := kk _ _ _ hPW ⟨rfl, rfl, rfl⟩ (hF w1 w2 _ hw1 hw2 rfl) V rfl X₂
  exact ⟨t, st1 _ (fun acts => by rw [doInvoke_state]; exact st2 _ a1), b1⟩
theorem hg_newaS (rs : List TV) {index : Nat} {n : Int32} {N' : Nat} {P : GT → S → Prop} (X : CX p s m args c meth cc nL ret own D dA ad A) (hP : PW D dA A s.heap ad (HS g ι) H locs) (hA0 : HA ad0 g0 ad g) (hl : LH ad ls nL lv) (hlv : LTl (200 + gN g) lv) (hrs : LTs (200 + gN g) rs) (hcl : Cond.classLink own index "java/lang/String" ∈ lw_all) (harr : Cond.arrayOver (.object "java/lang/String") ∈ lw_tbl) (hn : ¬ n < 0) (hN : n.toNatClampNeg = N') (hbytes : N' ≤ 100000000) (hroom : cells + 1 ≤ R.cells ∧ slots + N' ≤ R.slots) (hdg : decode cc pc = .ok (.anewarray index, 3)) (hst : st0 = .int n :: rs.map (tv ad)) (hF : ∀ g' ι', g' = newg g 111 N' → ι' = newi g ι → P g' ι')
    (kk : ∀ (H1 : Heap) (ad' : Nat → Nat) (g' : GT) (ι' : S), CX p s m args c meth cc nL ret own D dA ad' A → PW D dA A s.heap ad' (HS g' ι') H1 locs → HA ad0 g0 ad' g' → gN g + 1 ≤ gN g' → (gK g' (200 + gN g) = 111 ∧ ∀ v, v < 200 + gN g → gK g' v = gK g v) → LH ad' ls nL lv → P g' ι' → W p l e R s m args below meth c H1 locs (cells + 1) (slots + N') Q (F0 m (pc + 3) ls (rv ad' (200 + gN g) :: rs.map (tv ad')))) : W p l e R s m args below meth c H locs cells slots Q (F0 m pc ls st0) := by
  subst hst
  refine va_newq X.1 X.2.1 X.2.2.2.1 (X.2.2.2.2.1 _ hcl) (X.2.2.2.2.2.2.1.2.1 _ harr rfl) X.2.2.2.2.2.2.1.1 hP.1 hP.2.1 hP.2.2.1 X.2.2.2.2.2.1 hn hN (by omega) hroom.1 hroom.2 hdg (fun q cA H1 hK' q1 q2 q3 => ?_)
  have hcA : cA = dA 111 := by
    obtain ⟨-, -, -, -, -, h4⟩ := (hK'.2 7 (cA, .object "java/lang/String") rfl).2
    obtain ⟨-, -, -, -, -, h5⟩ := (X.2.2.2.2.2.2.1.1.2 4 (dA 111, .object "java/lang/String") rfl).2
    exact Option.some.inj (h4.symm.trans h5)
  subst hcA
  have he : entv dA (va_up ad (200 + gN g) q) (newp (HS g ι) 111 N') (200 + gN g) = .inl (dA 111, N', .inr (.inr (.inr (.inr (fun _ => none))))) := by
    rw [entv_q (c := 111) (show hK (newp (HS g ι) 111 N') (200 + gN g) = 111 from if_pos rfl) (by omega)]
    rw [show hR (newp (HS g ι) 111 N') (200 + gN g) = fun _ => 0 from if_pos rfl, show hL (newp (HS g ι) 111 N') (200 + gN g) = N' from if_pos rfl]
    rfl
  obtain ⟨X', hP', hA'⟩ := pw_new hP X hA0 (by decide) he q1 q2 q3
  have h1 : ∀ p, p < 200 + gN g → va_up ad (200 + gN g) q p = ad p := fun p hp => if_neg (Nat.ne_of_lt hp)
  have := kk H1 _ _ _ X' hP' hA' (Nat.le_refl _) ⟨if_pos rfl, fun v hv => if_neg (Nat.ne_of_lt hv)⟩ (lh_new hl hlv h1) (hF _ _ rfl rfl)
  rw [tvs_new hrs h1, rv_nz (by omega), show va_up ad (200 + gN g) q (200 + gN g) = q from if_pos rfl] at this
  exact this
theorem hg_aastS {i : Int32} {k j : Nat} {P : GT → Prop} (X : CX p s m args c meth cc nL ret own D dA ad A) (hP : PW D dA A s.heap ad (HS g ι) H locs) (hk : gK g pl = 111) (hin : vp_in i (gL g pl)) (hi : i.toNatClampNeg = k) (hj : j < 30) (hdg : decode cc pc = .ok (.aastore, 1)) (hF : ∀ g', g' = setg g pl k (1 + 2 * j) → P g')
    (kk : ∀ (H1 : Heap) (locs1 : List Loc) (g' : GT), PW D dA A s.heap ad (HS g' ι) H1 locs1 → gN g' = gN g ∧ gK g' = gK g ∧ gL g' = gL g → P g' → W p l e R s m args below meth c H1 locs1 cells slots Q (F0 m (pc + 1) ls rest)) : W p l e R s m args below meth c H locs cells slots Q (F0 m pc ls (rv ad (1 + 2 * j) :: .int i :: rv ad pl :: rest)) := by
  subst hi
  obtain ⟨P1, P2, P3, P4⟩ := id hP
  have hk : hK (HS g ι) pl = 111 := hk
  rw [rv_nz (v := pl) (pl_nz P4 hk (by omega) (by omega)), rv_nz (v := 1 + 2 * j) (by omega)]
  have hany : va_Any "java/lang/String" s H (ad (1 + 2 * j)) := by
    obtain ⟨cell, c1, c2, c3⟩ := vk_recv (adK := fun i => ad (1 + 2 * i)) X.2.2.2.2.2.2.1.2.2.1 hj P3
    obtain ⟨kC, hkC, -⟩ := Vm.findClass_spec c3
    refine ⟨cell, c1, c2, ⟨kC, hkC⟩, fun comp h => ?_⟩
    cases c3.symm.trans h
    exact va_asg _ _
  refine va_astqM X.1 X.2.1 X.2.2.2.2.2.2.1.1 P1 P2 P3 (pl - 200) 4 (ent_q P4 hk (by omega) (by omega)) (ty_get rfl) hany hin hdg (fun H1 locs1 q1 q2 q3 => ?_)
  have hro : va_up (fun k => ro ad (hR (HS g ι) pl k)) i.toNatClampNeg (some (ad (1 + 2 * j))) = fun k => ro ad (va_up (hR (HS g ι) pl) i.toNatClampNeg (1 + 2 * j) k) := by
    funext z
    unfold va_up
    split
    · exact (if_neg (by omega)).symm
    · rfl
  rw [hro] at q1 q2
  exact kk H1 locs1 (setg g pl i.toNatClampNeg (1 + 2 * j)) (pw_setQ P4 hk (by omega) (by omega) (fun z => by
    unfold va_up
    split
    · show 1 + 2 * j < 200 + hN (HS g ι)
      omega
    · exact P4.2.2.1 pl z) q1 q2 q3) ⟨rfl, rfl, rfl⟩ (hF _ rfl)
theorem hg_newF (ci : Nat) (rs : List TV) {index N : Nat} {C : String} {T : u_T} {P : GT → S → Prop} (X : CX p s m args c meth cc nL ret own D dA ad A) (hP : PW D dA A s.heap ad (HS g ι) H locs) (hA0 : HA ad0 g0 ad g) (hl : LH ad ls nL lv) (hlv : LTl (200 + gN g) lv) (hrs : LTs (200 + gN g) rs) (hin : ∀ w ∈ u_ws C T N, w ∈ lw_all) (ty0 : Nat → FieldType) (hty : ∀ k, k < N → parseFieldDescriptor (T k).2.2.1 = some (ty0 k)) (hdf : ∀ j, j < N → defaultValue (ty0 j) = vp_V (mkF (fun _ => 0) (fun _ => 0) (fun _ => 0) (fT ci) 0) j) (hcl : Cond.classLink own index C ∈ lw_all) (hinst : Cond.instantiable C N ∈ lw_all) (hini : Cond.initialized C ∈ lw_all) (hroom : cells + 1 ≤ R.cells ∧ slots + N ≤ R.slots) (hdg : decode cc pc = .ok (.new index, 3)) (hst : st0 = rs.map (tv ad)) (hF : ∀ g' ι', g' = newg g (ci + 1) 0 → ι' = newi g ι → P g' ι')
    (kk : ∀ (H1 : Heap) (ad' : Nat → Nat) (g' : GT) (ι' : S), CX p s m args c meth cc nL ret own D dA ad' A → PW D dA A s.heap ad' (HS g' ι') H1 locs → HA ad0 g0 ad' g' → gN g + 1 ≤ gN g' → (gK g' (200 + gN g) = ci + 1 ∧ ∀ v, v < 200 + gN g → gK g' v = gK g v) → freshM H1 (ad' (200 + gN g)) → LH ad' ls nL lv → P g' ι' → W p l e R s m args below meth c H1 locs (cells + 1) (slots + N) Q (F0 m (pc + 3) ls (rv ad' (200 + gN g) :: rs.map (tv ad')))) (hci : ci < 99 := by exact Nat.le_of_ble_eq_true rfl) (hc : CL[ci]? = some (C, T, N) := by rfl) : W p l e R s m args below meth c H locs cells slots Q (F0 m pc ls st0) := by
  subst hst
  have hKn := X.2.2.2.2.2.2.1.1.1 ci _ hc
  refine W.newcK X.1 X.2.1 X.2.2.2.1 (X.2.2.2.2.1 _ hcl) (X.2.2.2.2.1 _ hinst) (X.2.2.2.2.1 _ hini) rfl hdg hroom.1 hroom.2 hKn.2.1 rfl fun H1 kC hkC e1 z1 o1 => ?_
  have hk : ∀ (k : Nat) (x : Nat × va_E), (PL dA ad (HS g ι))[k]? = some x → H1[x.1]? = H[x.1]? := fun k x hx => o1 x.1 ((hP.1 k x hx).lt)
  have q1 : va_P D CL (PL dA ad (HS g ι) ++ [(H.size, .inr (ci, mkF (fun _ => 0) (fun _ => 0) (fun _ => 0) (fT ci) 0))]) H1 := (hP.1.kept hk).app (fun k x hx => by
    have hz : k < 1 := (List.getElem?_eq_some_iff.mp hx).1
    rw [show k = 0 by omega] at hx
    cases hx
    exact ⟨_, hc, (u_born ty0 X.2.2.2.2.1 hin hKn hkC e1 hty).to hdf⟩)
  have q2 : va_D A (PL dA ad (HS g ι) ++ [(H.size, .inr (ci, mkF (fun _ => 0) (fun _ => 0) (fun _ => 0) (fT ci) 0))]) := hP.2.1.push hP.1 rfl (X.2.2.2.2.2.1 _ hP.2.2.1.1)
  have q3 : va_S A s.heap H1 locs := ⟨Nat.le_trans hP.2.2.1.1 (by omega), fun x h1 h2 => (o1 x (Nat.lt_of_lt_of_le h1 hP.2.2.1.1)).trans (hP.2.2.1.2.1 x h1 h2), hP.2.2.1.2.2⟩
  have he : entv dA (va_up ad (200 + gN g) H.size) (newp (HS g ι) (ci + 1) 0) (200 + gN g) = .inr (ci, mkF (fun _ => 0) (fun _ => 0) (fun _ => 0) (fT ci) 0) := by
    rw [entv_o (c := ci) (show hK (newp (HS g ι) (ci + 1) 0) (200 + gN g) = ci + 1 from if_pos rfl) hci]
    rw [show hI (newp (HS g ι) (ci + 1) 0) (200 + gN g) = fun _ => 0 from if_pos rfl, show hR (newp (HS g ι) (ci + 1) 0) (200 + gN g) = fun _ => 0 from if_pos rfl]
    congr 2
    exact mkF_ext _ 0 (fun _ _ => rfl) (fun _ _ => rfl)
  obtain ⟨X', hP', hA'⟩ := pw_new hP X hA0 (Nat.succ_ne_zero ci) he q1 q2 q3
  have h1 : ∀ p, p < 200 + gN g → va_up ad (200 + gN g) H.size p = ad p := fun p hp => if_neg (Nat.ne_of_lt hp)
  have hq : va_up ad (200 + gN g) H.size (200 + gN g) = H.size := if_pos rfl
  have := kk H1 _ _ _ X' hP' hA' (Nat.le_refl _) ⟨if_pos rfl, fun v hv => if_neg (Nat.ne_of_lt hv)⟩ (by rw [hq]; exact ⟨_, e1, rfl, rfl⟩) (lh_new hl hlv h1) (hF _ _ rfl rfl)
  rw [tvs_new hrs h1, rv_nz (by omega), hq] at this
  exact this
variable {y : MethodName} {bytes : ByteArray} {maxL nA b1 s1 : Nat} {rm : Room} {Qv1 : GT → S → Prop}
theorem hg_callIF {index : Nat} (as rs : List TV) (X : CX p s m args c meth cc nL ret own D dA ad A) (hP : PW D dA A s.heap ad (HS g ι) H locs) (hpl : pl ≠ 0) (hfr : freshM H (ad pl)) (hM : CHFv l y bytes maxL rm D dA ad g ι H.size pl as Qv1 b1 s1) (cw : CallB R s args own index y bytes maxL none (ws_ y bytes maxL none) rm b1 s1 nA ∧ y.name = "<init>" ∧ (Cond.instanceMethod y).before args s = true) (hn : as.length = nA) (hA0 : HA ad0 g0 ad g) (hl : LH ad ls nL lv) (hlv : LTl (200 + gN g) lv) (hrs : LTs (200 + gN g) rs) {k8 : Nat} (hrest : ((rs.map (tv ad)).map fun v => v.category).sum ≤ k8) (h8 : k8 ≤ 8) (hroom : cells + b1 ≤ R.cells ∧ slots + s1 ≤ R.slots) (hdg : decode cc pc = .ok (.invokespecial index, 3)) (hst : st0 = (as.map (tv ad)).reverse ++ rv ad pl :: rs.map (tv ad))
    (kk : ∀ (ad' : Nat → Nat) (g' : GT) (ι' : S) (H1 : Heap) (locs1 : List Loc), Qv1 g' ι' → CX p s m args c meth cc nL ret own D dA ad' A → PW D dA A s.heap ad' (HS g' ι') H1 locs1 → HA ad0 g0 ad' g' → gN g ≤ gN g' → LH ad' ls nL lv → W p l e R s m args below meth c H1 locs1 (cells + b1) (slots + s1) Q (F0 m (pc + 3) ls (rs.map (tv ad')))) : W p l e R s m args below meth c H locs cells slots Q (F0 m pc ls st0) := by
  subst hst
  rw [rv_nz hpl]
  exact va_callv (va_runI (As := as.map (tv ad)) (rest := rs.map (tv ad)) ⟨X.1, X.2.1, X.2.2.1, X.2.2.2.1, X.2.2.2.2.1⟩ hM cw ⟨cpcF_blind, fun U hU hW => ⟨hg_recv X hP hpl U hU hW, by rw [hU]; exact hfr⟩⟩ rfl (by rw [List.length_map]; exact hn) hl.1 rfl (lv_room (Nat.le_trans hrest h8)) hdg hroom) hP.2.2.1 (fun q _ hq => ph_free X hP q hq) (ph_free X hP) (fun u t H1 locs1 ht hvm hq hB hz hk1 hS => by
    obtain ⟨h9, ad9⟩ := u
    obtain ⟨g', ι', rfl, hA', hq⟩ := hq
    have h1 := hA'.2
    have h2 := kk _ g' ι' H1 locs1 hq (cx_ad X (fun p hp => h1 p (by omega))) (h_after X hP hB ht hS) (hA0.tr hA') hA'.1 (lh_new hl hlv h1)
    rw [tvs_new hrs h1] at h2
    exact h2)
end HFR
