set_option maxRecDepth 100000
def wsW (y : MethodName) (cc : ByteArray) (nL : Nat) (ret : Option FieldType) (hh : List (Nat × Nat × Nat × Nat)) : List Cond := Cond.codeWith y cc nL ret hh :: lw_all
abbrev XVC (D : va_G) (dA : Nat → ClassId) (ad0 : Nat → Nat) (g0 : GT) (A : Nat → Prop) (Xq : Nat → GT → S → Prop) : String → State → State → Prop := vx_X (fun u : Nat × HT2 => HQ ad0 g0 (fun g ι => Xq u.1 g ι) u.2) (fun (E : String) (u : Nat × HT2) (t : State) => E = exN u.1 ∧ HB D dA A u.2 t) A
abbrev CZi (l : Launch) (y : MethodName) (cc : ByteArray) (nL : Nat) (ret : FieldType) (hh : List (Nat × Nat × Nat × Nat)) (rm : Room) (D : va_G) (dA : Nat → ClassId) (ad : Nat → Nat) (g : GT) (ι : S) (sz : Nat) (as : List TV) (Q : Int32 → GT → S → Prop) (Xq : Nat → GT → S → Prop) (mc ms : Nat) : Prop := vx_Met l y (wsW y cc nL (some ret) hh) rm (CPc D dA ad (HS g ι) sz as) (HPi D dA ad g (AF dA ad (HS g ι) sz) Q) (XVC D dA ad g (AF dA ad (HS g ι) sz) Xq) mc ms (AF dA ad (HS g ι) sz)
abbrev WZi (p : Program) (l : Launch) (e : Env) (R : Room) (s : State) (m : MethodId) (args : Array Value) (below : List Frame) (meth : Method) (c : Code) (D : va_G) (dA : Nat → ClassId) (ad0 : Nat → Nat) (g0 : GT) (A : Nat → Prop) (Q : Int32 → GT → S → Prop) (Xq : Nat → GT → S → Prop) (mc ms : Nat) (H : Heap) (locs : List Loc) (cells slots : Nat) (fr : JFrame) : Prop := W p l e R s m args below meth c H locs cells slots (vx_MQ below (HPi D dA ad0 g0 A Q) (XVC D dA ad0 g0 A Xq) args s mc ms A) fr
theorem zg_enter {l : Launch} {y : MethodName} {cc : ByteArray} {nL : Nat} {ret : Option FieldType} {hh : List (Nat × Nat × Nat × Nat)} {rm : Room} {D : va_G} {dA : Nat → ClassId} {ad : Nat → Nat} {h : HT} {sz mc ms : Nat} (as : List TV) {Qc : (Nat → Prop) → Array Value → State → Outcome → State → Prop} {XC : (Nat → Prop) → String → State → State → Prop} (hy : plainName y.cls = true) (hlen : (as.map fun x => if tl x = true then 2 else 1).sum ≤ nL)
    (body : ∀ (p : Program) (e : Env) (s : State) (m : MethodId) (args : Array Value) (below : List Frame) (meth : Method) (c : Code) (A : Nat → Prop) (ls : Array Slot), CX p s m args c meth cc nL ret y.cls D dA ad A → PW D dA A s.heap ad h s.heap [] → LH ad ls nL (targs 0 as) → c.exceptionTable.toList = tableOf hh → W p l e rm s m args below meth c s.heap [] 0 0 (vx_MQ below (Qc A) (XC A) args s mc ms A) (F0 m 0 ls [])) :
    vx_Met l y (wsW y cc nL ret hh) rm (CPc D dA ad h sz as) (Qc (AF dA ad h sz)) (XC (AF dA ad h sz)) mc ms (AF dA ad h sz) := by
  refine vx_ofWH (cc := cc) (maxL := nL) (ret := ret) (hh := hh) hy rfl ?_
  intro p e s m args below meth c s₁ B hml hv
  obtain ⟨rfl, hsz, hP, hD0, hw, hkb⟩ := hv
  have hts0 := atoms_spec (ws := wsW y cc nL ret hh) B.pre
  have hts : ∀ w ∈ lw_all, w.before _ s = true := fun w h => hts0 w (List.mem_cons_of_mem _ h)
  have hown : s.vm.findClass y.cls = some m.cls := findClass_of_methodNamed B.named
  have htab := vx_table (x := y) B (hts0 _ List.mem_cons_self)
  subst hsz
  have hl := lv_entry (as.map (tv ad)) (n := nL) (by rw [lg_tsl]; exact hlen)
  rw [targs_map] at hl
  rw [lg_entry_eq]
  exact body p e s m _ below meth c (AF dA ad h s.heap.size) _ ⟨B.exec, B.bytes, hml, hown, hts, fun q hq => Or.inr hq, hkb, B.returns, B.notSynchronized⟩ ⟨hP, hD0.self, va_S.rf, hw⟩ hl htab
section HZR
variable {p : Program} {l : Launch} {e : Env} {R : Room} {s : State} {m : MethodId} {args : Array Value} {below : List Frame} {meth : Method} {c : Code} {H : Heap} {locs : List Loc} {cells slots : Nat} {Q : State → Prop}
variable {cc : ByteArray} {nL pc : Nat} {ret : Option FieldType} {ls : Array Slot} {rest : List Value} {D : va_G} {dA : Nat → ClassId} {ad : Nat → Nat} {A : Nat → Prop} {h : HT} {own : String} {pl : Nat} {lv : List (Nat × TV)}
variable {g g0 : GT} {ι : S} {st0 : List Value} {ad0 : Nat → Nat} {mc ms : Nat} {Qi : Int32 → GT → S → Prop} {Xq : Nat → GT → S → Prop} {tab : List ExceptionTableEntry}
theorem hz_iret {v : Int32} (X : CX p s m args c meth cc nL (some .int) own D dA ad A) (hP : PW D dA A s.heap ad (HS g ι) H locs) (hA : HA ad0 g0 ad g) (hQ : Qi v g ι) (hc : cells ≤ mc) (hs : slots ≤ ms) (hdg : decode cc pc = .ok (.ireturn, 1)) : WZi p l e R s m args below meth c D dA ad0 g0 A Qi Xq mc ms H locs cells slots (F0 m pc ls [.int v]) := vx_ret (hg_iret X hP hA hQ hc hs hdg)
theorem hz_passE {E : String} {ce : Cell} {q9 : Addr} {u : Nat × S} {t : State} {H1 : Heap} {locs1 : List Loc} {Qc : Array Value → State → Outcome → State → Prop} (X : CX p s m args c meth cc nL ret own D dA ad A) (hP : PW D dA A s.heap ad (HS g ι) H locs) (hA : HA ad0 g0 ad g) (htab : c.exceptionTable.toList = tab) (hout : ∀ x ∈ tab, covers x pc = false) (ht : t.heap = H1) (hX : Xq u.1 g u.2) (hB : XBX D dA ad g (AF dA ad (HS g ι) H.size) E u t) (hS : va_S A s.heap H1 locs1) (hce : H1[q9]? = some ce) (hv : ce.vm = .none) (hcl : s.vm.findClass E = some ce.cls) (hc : cells ≤ mc) (hs : slots ≤ ms) :
    vx_W p l e R s m args below meth c H1 locs1 cells slots (vx_MQ below Qc (XVC D dA ad0 g0 A Xq) args s mc ms A) (F0 m pc ls rest) q9 := by
  have hP' := ph_after X hP hB.2 ht hS
  exact vx_out (by rw [htab]; exact hout) X.2.2.2.2.2.2.2.2 hce hv hcl (fun t2 ht2 _ => ⟨(u.1, HS g u.2, ad), ⟨g, u.2, rfl, hA, hX⟩, ⟨hB.1, by rw [HB, CB, ht2]; exact ⟨hP'.1, hP'.2.1, hP'.2.2.2⟩⟩, hS.F ht2⟩) hS.2.2 hc hs
variable {y x : MethodName} {bytes : ByteArray} {maxL nA index N b1 s1 : Nat} {rt : FieldType} {rm : Room} {C owner : String} {T : u_T} {Qq1 : Nat → GT → S → Prop} {Qv1e : S → Prop} {Xq1 : Nat → Nat → GT → S → Prop}
theorem hz_callSv {Qc : Array Value → State → Outcome → State → Prop} (as : List TV) (X : CX p s m args c meth cc nL ret own D dA ad A) (hP : PW D dA A s.heap ad (HS g ι) H locs) (htab : c.exceptionTable.toList = tab) (hout : ∀ x ∈ tab, covers x pc = false) (hM : CEv l y bytes maxL rm D dA ad g ι H.size as Qv1e (fun k ι' => Xq k g ι') b1 s1) (cw : CallB R s args own index y bytes maxL none (ws_ y bytes maxL none) rm b1 s1 nA ∧ (Cond.static y).before args s = true) (hn : as.length = nA) (hA0 : HA ad0 g0 ad g) (hl : LH ad ls nL lv) {k8 : Nat} (hrest : (rest.map fun v => v.category).sum ≤ k8) (h8 : k8 ≤ 8) (hroom : cells + b1 ≤ R.cells ∧ slots + s1 ≤ R.slots) (hmc : cells + b1 ≤ mc) (hms : slots + s1 ≤ ms) (hdg : decode cc pc = .ok (.invokestatic index, 3)) (hst : st0 = (as.map (tv ad)).reverse ++ rest)
    (kk : ∀ (ι' : S) (H1 : Heap) (locs1 : List Loc), Qv1e ι' → PW D dA A s.heap ad (HS g ι') H1 locs1 → W p l e R s m args below meth c H1 locs1 (cells + b1) (slots + s1) (vx_MQ below Qc (XVC D dA ad0 g0 A Xq) args s mc ms A) (F0 m (pc + 3) ls rest)) : W p l e R s m args below meth c H locs cells slots (vx_MQ below Qc (XVC D dA ad0 g0 A Xq) args s mc ms A) (F0 m pc ls st0) := by
  subst hst
  exact vx_callv (vx_runS (As := as.map (tv ad)) (rest := rest) ⟨X.1, X.2.1, X.2.2.1, X.2.2.2.1, X.2.2.2.2.1⟩ hM cw ⟨cpc_blind, fun U hU hW => ph_start X hP as hU hW⟩ rfl (by rw [List.length_map]; exact hn) hl.1 rfl (lv_room (Nat.le_trans hrest h8)) hdg hroom) hP.2.2.1 (fun q _ hq => ph_free X hP q hq) (ph_free X hP) (fun q _ hq => ph_free X hP q hq) (fun E ce q9 u t H1 locs1 ht hvm hq hB hz hk1 hS hce hv hcl => hz_passE X hP hA0 htab hout ht hq hB hS hce hv hcl hmc hms) (fun u t H1 locs1 ht hvm hq hB hz hk1 hS => by obtain ⟨ι', rfl, hq⟩ := hq; exact kk ι' H1 locs1 hq (ph_after X hP hB ht hS))
theorem hz_callVq (ci : Nat) (as rs : List TV) (X : CX p s m args c meth cc nL ret own D dA ad A) (hP : PW D dA A s.heap ad (HS g ι) H locs) {x0 : ExceptionTableEntry} (htab : c.exceptionTable.toList = [x0]) (hcov : covers x0 pc = true) (hct : x0.catchType ≠ 0) (hlink2 : Cond.classLink own x0.catchType "SpoonRow$Fault" ∈ lw_all) (hcast : Cond.castable "SpoonRow$Fault" "SpoonRow$Fault" ∈ lw_tbl) (hk : gK g pl = ci + 1) (hM : CYq l y bytes maxL rt rm D dA ad g ι H.size (pX pl :: as) Qq1 (fun k v g' ι' => k = 3 ∧ Xq1 k v g' ι') b1 s1) (cw : CallW R s args own C index y bytes maxL (some rt) (ws_ y bytes maxL (some rt)) rm b1 s1 nA) (hn : as.length = nA) (hA0 : HA ad0 g0 ad g) (hl : LH ad ls nL lv) (hlv : LTl (200 + gN g) lv) (hrs : LTs (200 + gN g) rs) {k8 : Nat} (hrest : ((rs.map (tv ad)).map fun v => v.category).sum ≤ k8) (h8 : k8 ≤ 8) (hroom : cells + b1 ≤ R.cells ∧ slots + s1 ≤ R.slots) (hdg : decode cc pc = .ok (.invokevirtual index, 3)) (hst : st0 = (as.map (tv ad)).reverse ++ rv ad pl :: rs.map (tv ad))
    (kx : ∀ (v : Nat) (ad' : Nat → Nat) (g' : GT) (ι' : S) (H1 : Heap) (locs1 : List Loc), Xq1 3 v g' ι' → v < 200 + gN g' → gK g' v = 9 → CX p s m args c meth cc nL ret own D dA ad' A → PW D dA A s.heap ad' (HS g' ι') H1 locs1 → HA ad0 g0 ad' g' → gN g ≤ gN g' → LH ad' ls nL lv → W p l e R s m args below meth c H1 locs1 (cells + b1) (slots + s1) Q (F0 m x0.handlerPc ls [rv ad' v]))
    (kk : ∀ (v : Nat) (ad' : Nat → Nat) (g' : GT) (ι' : S) (H1 : Heap) (locs1 : List Loc), Qq1 v g' ι' → v < 200 + gN g' → CX p s m args c meth cc nL ret own D dA ad' A → PW D dA A s.heap ad' (HS g' ι') H1 locs1 → HA ad0 g0 ad' g' → gN g ≤ gN g' → LH ad' ls nL lv → W p l e R s m args below meth c H1 locs1 (cells + b1) (slots + s1) Q (F0 m (pc + 3) ls (rv ad' v :: rs.map (tv ad')))) (hci : ci < 99 := by exact Nat.le_of_ble_eq_true rfl) (hc9 : CL[ci]? = some (C, T, N) := by rfl) : W p l e R s m args below meth c H locs cells slots Q (F0 m pc ls st0) := by
  subst hst
  have hpl : pl ≠ 0 := pl_nz hP.2.2.2 (pl := pl) (ci := ci + 1) hk (by omega) (by omega)
  rw [rv_nz hpl]
  refine yx_callq (yx_runV (As := as.map (tv ad)) (rest := rs.map (tv ad)) ⟨X.1, X.2.1, X.2.2.1, X.2.2.2.1, X.2.2.2.2.1⟩ hM cw ⟨cpc_blind, ph_recv X hP hk hci hc9, hg_recv X hP hpl⟩ rfl (by rw [List.length_map]; exact hn) hl.1 rfl (lv_room (Nat.le_trans hrest h8)) hdg hroom) hP.2.2.1 (fun q _ hq => ph_free X hP q hq) (ph_free X hP) (fun q _ hq => ph_free X hP q hq) ?_ (fun r u t H1 locs1 ht hvm hq hB hz hk1 hS => by
    obtain ⟨h9, ad9⟩ := u
    obtain ⟨v, rfl, g', ι', rfl, hA', hv, hq⟩ := hq
    have h1 := hA'.2
    have h2 := kk v _ g' ι' H1 locs1 hq hv (cx_ad X (fun p hp => h1 p (by omega))) (h_after X hP hB ht hS) (hA0.tr hA') hA'.1 (lh_new hl hlv h1)
    rw [tvs_new hrs h1] at h2
    exact h2)
  intro E ce q9 u t H1 locs1 ht hvm hq hB hz hk1 hS hce hv hcl
  obtain ⟨k, v, h9, ad9⟩ := u
  obtain ⟨g', ι', e1, hA', hv1, hkv, hk3, hx⟩ := hq
  have e1 : h9 = HS g' ι' := e1
  subst e1
  have hk3 : k = 3 := hk3
  subst hk3
  have hkv : gK g' v = 9 := hkv rfl
  obtain ⟨hE, hq9, hHB⟩ := hB
  have hE : E = "SpoonRow$Fault" := hE
  subst hE
  have hq9 : q9 = ad9 v := hq9 rfl
  have h1 := hA'.2
  have h2 := kx v ad9 g' ι' H1 locs1 hx hv1 hkv (cx_ad X (fun p hp => h1 p (by omega))) (h_after X hP hHB ht hS) (hA0.tr hA') hA'.1 (lh_new hl hlv h1)
  have hnz : v ≠ 0 := cg_nz (ci := 8) (h_after X hP hHB ht hS) hkv (by decide)
  rw [rv_nz hnz] at h2
  rw [hq9] at hce ⊢
  exact vx_catch X.2.2.2.1 [] x0 [] htab (fun z hz => by cases hz) hcov hct (X.2.2.2.2.1 _ hlink2) (va_Nw.use rfl (X.2.2.2.2.2.2.1.2.1 _ hcast rfl)) hce hv hcl h2
end HZR
