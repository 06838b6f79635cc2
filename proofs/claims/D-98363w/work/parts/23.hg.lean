set_option maxRecDepth 100000
def setg (g : GT) (p k v : Nat) : GT := (g.1, g.2.1, g.2.2.1, va_up g.2.2.2 p (va_up (g.2.2.2 p) k v))
def setga (g : GT) (p : Nat) (f : Nat → Nat) : GT := (g.1, g.2.1, g.2.2.1, va_up g.2.2.2 p f)
def newg (g : GT) (c n : Nat) : GT := (g.1 + 1, va_up g.2.1 (200 + g.1) c, va_up g.2.2.1 (200 + g.1) n, va_up g.2.2.2 (200 + g.1) (fun _ => 0))
def newi (g : GT) (ι : S) : S := va_up ι (200 + g.1) (fun _ => 0)
theorem hs_setg (g : GT) (ι : S) (p k v : Nat) : setR (HS g ι) p k v = HS (setg g p k v) ι := rfl
theorem hs_setga (g : GT) (ι : S) (p : Nat) (f : Nat → Nat) : setRA (HS g ι) p f = HS (setga g p f) ι := rfl
theorem hs_newg (g : GT) (ι : S) (c n : Nat) : newp (HS g ι) c n = HS (newg g c n) (newi g ι) := rfl
/-- a later world: more places, the old ones where they were -/
def HA (ad0 : Nat → Nat) (g0 : GT) (ad : Nat → Nat) (g : GT) : Prop := gN g0 ≤ gN g ∧ ∀ p, p < 200 + gN g0 → ad p = ad0 p
theorem HA.rf {ad : Nat → Nat} {g : GT} : HA ad g ad g := ⟨Nat.le_refl _, fun _ _ => rfl⟩
theorem HA.tr {ad0 ad ad' : Nat → Nat} {g0 g g' : GT} (h1 : HA ad0 g0 ad g) (h2 : HA ad g ad' g') : HA ad0 g0 ad' g' := ⟨Nat.le_trans h1.1 h2.1, fun p hp => (h2.2 p (by have := h1.1; omega)).trans (h1.2 p hp)⟩
theorem ltm {v : Nat} {g g' : GT} (h : v < 200 + gN g) (hle : gN g ≤ gN g') : v < 200 + gN g' := by omega
theorem lt0 {g : GT} : 0 < 200 + gN g := by omega
theorem ltk {v : Nat} {g : GT} (h : v < 200) : v < 200 + gN g := by omega
theorem ltw {g g' : GT} (hle : gN g + 1 ≤ gN g') : 200 + gN g < 200 + gN g' := by omega
theorem bytes_ok {ty : FieldType} {N' : Nat} (h : N' ≤ 100000000) (hc : componentBytes ty ≤ 4) : N' * componentBytes ty ≤ 536870912 := Nat.le_trans (Nat.mul_le_mul h hc) (by omega)
def LTl (n : Nat) (l : List (Nat × TV)) : Prop := ∀ q ∈ l, ∀ v, q.2 = pX v → v < n
def LTs (n : Nat) (l : List TV) : Prop := ∀ q ∈ l, ∀ v, q = pX v → v < n
theorem ltln {n : Nat} : LTl n [] := fun q hq => by cases hq
theorem ltli {n i : Nat} {x : Int32} {l : List (Nat × TV)} (h : LTl n l) : LTl n ((i, iX x) :: l) := fun q hq v e => by
  rcases List.mem_cons.mp hq with rfl | hq
  · cases e
  · exact h q hq v e
theorem ltll {n i : Nat} {x : Int64} {l : List (Nat × TV)} (h : LTl n l) : LTl n ((i, lX x) :: l) := fun q hq v e => by
  rcases List.mem_cons.mp hq with rfl | hq
  · cases e
  · exact h q hq v e
theorem ltlp {n i x : Nat} {l : List (Nat × TV)} (hx : x < n) (h : LTl n l) : LTl n ((i, pX x) :: l) := fun q hq v e => by
  rcases List.mem_cons.mp hq with rfl | hq
  · cases e; exact hx
  · exact h q hq v e
theorem ltsn {n : Nat} : LTs n [] := fun q hq => by cases hq
theorem ltsi {n : Nat} {x : Int32} {l : List TV} (h : LTs n l) : LTs n (iX x :: l) := fun q hq v e => by
  rcases List.mem_cons.mp hq with rfl | hq
  · cases e
  · exact h q hq v e
theorem ltsl {n : Nat} {x : Int64} {l : List TV} (h : LTs n l) : LTs n (lX x :: l) := fun q hq v e => by
  rcases List.mem_cons.mp hq with rfl | hq
  · cases e
  · exact h q hq v e
theorem ltsp {n x : Nat} {l : List TV} (hx : x < n) (h : LTs n l) : LTs n (pX x :: l) := fun q hq v e => by
  rcases List.mem_cons.mp hq with rfl | hq
  · cases e; exact hx
  · exact h q hq v e
theorem lh_new {ad ad' : Nat → Nat} {ls : Array Slot} {n N : Nat} {l : List (Nat × TV)} (h : LH ad ls n l) (hl : LTl N l) (ha : ∀ p, p < N → ad' p = ad p) : LH ad' ls n l := lh_re h (fun q hq v e => ha v (hl q hq v e))
theorem tvs_new {ad ad' : Nat → Nat} {N : Nat} : ∀ {rs : List TV}, LTs N rs → (∀ p, p < N → ad' p = ad p) → rs.map (tv ad') = rs.map (tv ad)
  | [], _, _ => rfl
  | x :: rs, hl, ha => by
    rw [List.map_cons, List.map_cons, tvs_new (rs := rs) (fun q hq => hl q (List.mem_cons_of_mem _ hq)) ha]
    congr 1
    rcases x with x | x | x
    · rfl
    · rfl
    · exact rv_eq (ha x (hl _ List.mem_cons_self x rfl))
abbrev HT2 : Type := HT × (Nat → Nat)
def HQ (ad0 : Nat → Nat) (g0 : GT) (K : GT → S → Prop) (u : HT2) : Prop := ∃ g ι, u.1 = HS g ι ∧ HA ad0 g0 u.2 g ∧ K g ι
def HB (D : va_G) (dA : Nat → ClassId) (A : Nat → Prop) (u : HT2) (t : State) : Prop := CB D dA u.2 A u.1 t
abbrev HPi (D : va_G) (dA : Nat → ClassId) (ad0 : Nat → Nat) (g0 : GT) (A : Nat → Prop) (Q : Int32 → GT → S → Prop) : Array Value → State → Outcome → State → Prop := va_Qi (fun r u => HQ ad0 g0 (Q r) u) (HB D dA A) A
abbrev HPv (D : va_G) (dA : Nat → ClassId) (ad0 : Nat → Nat) (g0 : GT) (A : Nat → Prop) (Q : GT → S → Prop) : Array Value → State → Outcome → State → Prop := va_Qv (fun u => HQ ad0 g0 Q u) (HB D dA A) A
abbrev HPq (D : va_G) (dA : Nat → ClassId) (ad0 : Nat → Nat) (g0 : GT) (A : Nat → Prop) (Q : Nat → GT → S → Prop) : Array Value → State → Outcome → State → Prop := va_Qq (fun (r : Option Nat) (u : HT2) => ∃ v, r = ro u.2 v ∧ HQ ad0 g0 (fun g ι => v < 200 + gN g ∧ Q v g ι) u) (HB D dA A) A
abbrev CHi (l : Launch) (y : MethodName) (cc : ByteArray) (nL : Nat) (ret : FieldType) (rm : Room) (D : va_G) (dA : Nat → ClassId) (ad : Nat → Nat) (g : GT) (ι : S) (sz : Nat) (as : List TV) (Q : Int32 → GT → S → Prop) (mc ms : Nat) : Prop := Met l y (ws_ y cc nL (some ret)) rm (CPc D dA ad (HS g ι) sz as) (HPi D dA ad g (AF dA ad (HS g ι) sz) Q) mc ms (AF dA ad (HS g ι) sz)
abbrev WHi (p : Program) (l : Launch) (e : Env) (R : Room) (s : State) (m : MethodId) (args : Array Value) (below : List Frame) (meth : Method) (c : Code) (D : va_G) (dA : Nat → ClassId) (ad0 : Nat → Nat) (g0 : GT) (A : Nat → Prop) (Q : Int32 → GT → S → Prop) (mc ms : Nat) (H : Heap) (locs : List Loc) (cells slots : Nat) (fr : JFrame) : Prop := W p l e R s m args below meth c H locs cells slots (MQ below (HPi D dA ad0 g0 A Q) args s mc ms A) fr
abbrev CHv (l : Launch) (y : MethodName) (cc : ByteArray) (nL : Nat) (rm : Room) (D : va_G) (dA : Nat → ClassId) (ad : Nat → Nat) (g : GT) (ι : S) (sz : Nat) (as : List TV) (Q : GT → S → Prop) (mc ms : Nat) : Prop := Met l y (ws_ y cc nL none) rm (CPc D dA ad (HS g ι) sz as) (HPv D dA ad g (AF dA ad (HS g ι) sz) Q) mc ms (AF dA ad (HS g ι) sz)
abbrev WHv (p : Program) (l : Launch) (e : Env) (R : Room) (s : State) (m : MethodId) (args : Array Value) (below : List Frame) (meth : Method) (c : Code) (D : va_G) (dA : Nat → ClassId) (ad0 : Nat → Nat) (g0 : GT) (A : Nat → Prop) (Q : GT → S → Prop) (mc ms : Nat) (H : Heap) (locs : List Loc) (cells slots : Nat) (fr : JFrame) : Prop := W p l e R s m args below meth c H locs cells slots (MQ below (HPv D dA ad0 g0 A Q) args s mc ms A) fr
abbrev CHq (l : Launch) (y : MethodName) (cc : ByteArray) (nL : Nat) (ret : FieldType) (rm : Room) (D : va_G) (dA : Nat → ClassId) (ad : Nat → Nat) (g : GT) (ι : S) (sz : Nat) (as : List TV) (Q : Nat → GT → S → Prop) (mc ms : Nat) : Prop := Met l y (ws_ y cc nL (some ret)) rm (CPc D dA ad (HS g ι) sz as) (HPq D dA ad g (AF dA ad (HS g ι) sz) Q) mc ms (AF dA ad (HS g ι) sz)
abbrev WHq (p : Program) (l : Launch) (e : Env) (R : Room) (s : State) (m : MethodId) (args : Array Value) (below : List Frame) (meth : Method) (c : Code) (D : va_G) (dA : Nat → ClassId) (ad0 : Nat → Nat) (g0 : GT) (A : Nat → Prop) (Q : Nat → GT → S → Prop) (mc ms : Nat) (H : Heap) (locs : List Loc) (cells slots : Nat) (fr : JFrame) : Prop := W p l e R s m args below meth c H locs cells slots (MQ below (HPq D dA ad0 g0 A Q) args s mc ms A) fr
section HGR
variable {p : Program} {l : Launch} {e : Env} {R : Room} {s : State} {m : MethodId} {args : Array Value} {below : List Frame} {meth : Method} {c : Code} {H : Heap} {locs : List Loc} {cells slots : Nat} {Q : State → Prop}
variable {cc : ByteArray} {nL pc : Nat} {ret : Option FieldType} {ls : Array Slot} {rest : List Value} {D : va_G} {dA : Nat → ClassId} {ad : Nat → Nat} {A : Nat → Prop} {h : HT} {own : String} {pl : Nat} {lv : List (Nat × TV)}
variable {g g0 : GT} {ι : S} {st0 : List Value} {ad0 : Nat → Nat} {mc ms : Nat} {Qi : Int32 → GT → S → Prop} {Qv : GT → S → Prop} {Qq : Nat → GT → S → Prop}
theorem cx_ad {ad' : Nat → Nat} (X : CX p s m args c meth cc nL ret own D dA ad A) (he : ∀ p, p < 200 → ad' p = ad p) : CX p s m args c meth cc nL ret own D dA ad' A :=
  ⟨X.1, X.2.1, X.2.2.1, X.2.2.2.1, X.2.2.2.2.1, X.2.2.2.2.2.1, kb_ad X.2.2.2.2.2.2.1 he, X.2.2.2.2.2.2.2⟩
theorem klt {v c : Nat} (hP : PW D dA A s.heap ad (HS g ι) H locs) (hk : gK g v = c) (h0 : 0 < c := by decide) (h1 : c < 1000 := by decide) : v < 200 + gN g := (wfh_live hP.2.2.2 (p := v) hk h0 h1).2
theorem hg_iret {v : Int32} (X : CX p s m args c meth cc nL (some .int) own D dA ad A) (hP : PW D dA A s.heap ad (HS g ι) H locs) (hA : HA ad0 g0 ad g) (hQ : Qi v g ι) (hc : cells ≤ mc) (hs : slots ≤ ms) (hdg : decode cc pc = .ok (.ireturn, 1)) : WHi p l e R s m args below meth c D dA ad0 g0 A Qi mc ms H locs cells slots (F0 m pc ls [.int v]) :=
  W.widen hc hs (W.iret X.1 X.2.1 X.2.2.2.2.2.2.2.1 (fun t ht hW => ⟨⟨v, (HS g ι, ad), rfl, ⟨g, ι, rfl, hA, hQ⟩, by rw [HB, CB, ht]; exact ⟨hP.1, hP.2.1, hP.2.2.2⟩⟩, hP.2.2.1.F ht⟩) hP.2.2.1.2.2 hdg X.2.2.2.2.2.2.2.2)
theorem hg_zret {v : Int32} {ty : FieldType} (X : CX p s m args c meth cc nL (some ty) own D dA ad A) (hP : PW D dA A s.heap ad (HS g ι) H locs) (hA : HA ad0 g0 ad g) (hn : narrow ty (.int v) = .int v) (hQ : Qi v g ι) (hc : cells ≤ mc) (hs : slots ≤ ms) (hdg : decode cc pc = .ok (.ireturn, 1)) : WHi p l e R s m args below meth c D dA ad0 g0 A Qi mc ms H locs cells slots (F0 m pc ls [.int v]) :=
  W.widen hc hs (W.zret X.1 X.2.1 X.2.2.2.2.2.2.2.1 hn (fun t ht hW => ⟨⟨v, (HS g ι, ad), rfl, ⟨g, ι, rfl, hA, hQ⟩, by rw [HB, CB, ht]; exact ⟨hP.1, hP.2.1, hP.2.2.2⟩⟩, hP.2.2.1.F ht⟩) hP.2.2.1.2.2 hdg X.2.2.2.2.2.2.2.2)
theorem hg_vret (X : CX p s m args c meth cc nL none own D dA ad A) (hP : PW D dA A s.heap ad (HS g ι) H locs) (hA : HA ad0 g0 ad g) (hQ : Qv g ι) (hc : cells ≤ mc) (hs : slots ≤ ms) (hdg : decode cc pc = .ok (.return_, 1)) : WHv p l e R s m args below meth c D dA ad0 g0 A Qv mc ms H locs cells slots (F0 m pc ls []) :=
  W.widen hc hs (W.vret X.1 X.2.1 X.2.2.2.2.2.2.2.1 (fun t ht hW => ⟨⟨(HS g ι, ad), rfl, ⟨g, ι, rfl, hA, hQ⟩, by rw [HB, CB, ht]; exact ⟨hP.1, hP.2.1, hP.2.2.2⟩⟩, hP.2.2.1.F ht⟩) hP.2.2.1.2.2 hdg X.2.2.2.2.2.2.2.2)
theorem hg_aret {v : Nat} {rt : FieldType} (X : CX p s m args c meth cc nL (some rt) own D dA ad A) (hP : PW D dA A s.heap ad (HS g ι) H locs) (hA : HA ad0 g0 ad g) (hrt : (∃ n, rt = .object n) ∨ ∃ t, rt = .array t) (hv : v < 200 + gN g) (hQ : Qq v g ι) (hc : cells ≤ mc) (hs : slots ≤ ms) (hdg : decode cc pc = .ok (.areturn, 1)) : WHq p l e R s m args below meth c D dA ad0 g0 A Qq mc ms H locs cells slots (F0 m pc ls [rv ad v]) :=
  W.widen hc hs (W.aret X.1 X.2.1 X.2.2.2.2.2.2.2.1 hrt (va_rf_or _) (fun t ht hW => ⟨⟨ro ad v, (HS g ι, ad), rfl, ⟨v, rfl, ⟨g, ι, rfl, hA, hv, hQ⟩⟩, by rw [HB, CB, ht]; exact ⟨hP.1, hP.2.1, hP.2.2.2⟩⟩, hP.2.2.1.F ht⟩) hP.2.2.1.2.2 hdg X.2.2.2.2.2.2.2.2)
theorem h_after {u : HT2} {t : State} {H1 : Heap} {locs1 : List Loc} {h : HT} (X : CX p s m args c meth cc nL ret own D dA ad A) (hP : PW D dA A s.heap ad h H locs) (hB : HB D dA (AF dA ad h H.size) u t) (ht : t.heap = H1) (hS : va_S A s.heap H1 locs1) : PW D dA A s.heap u.2 u.1 H1 locs1 :=
  ⟨by rw [← ht]; exact hB.1, hB.2.1.weaken (fun _ q _ hq => ph_free X hP q.1 hq), hS, hB.2.2⟩
theorem hg_putr (ci k : Nat) {index N : Nat} {C ref : String} {T : u_T} (X : CX p s m args c meth cc nL ret own D dA ad A) (hin : ∀ w ∈ u_ws C T N, w ∈ lw_all) (ty0 : Nat → FieldType) (hty : ∀ k, k < N → parseFieldDescriptor (T k).2.2.1 = some (ty0 k)) (hnm : ∀ a, a < N → ∀ b, b < N → a ≠ b → (T a).2.1 ≠ (T b).2.1) (hP : PW D dA A s.heap ad (HS g ι) H locs) (hk : gK g pl = ci + 1) (hlink : Cond.fieldLink own index ref (T k).2.1 (T k).2.2.1 ∈ lw_all) (hdg : decode cc pc = .ok (.putfield index, 3)) {v : Nat} {P : GT → Prop} (hv : v < 200 + gN g) (hF : ∀ g', g' = setg g pl k v → P g')
    (kk : ∀ (H1 : Heap) (locs1 : List Loc) (g' : GT), PW D dA A s.heap ad (HS g' ι) H1 locs1 → gN g' = gN g ∧ gK g' = gK g ∧ gL g' = gL g → P g' → W p l e R s m args below meth c H1 locs1 cells slots Q (F0 m (pc + 3) ls rest)) (ht : (∃ n, ty0 k = .object n) ∨ ∃ t, ty0 k = .array t) (hci : ci < 99 := by exact Nat.le_of_ble_eq_true rfl) (hc : CL[ci]? = some (C, T, N) := by rfl) (hkN : k < N := by exact Nat.le_of_ble_eq_true rfl) (hr : (T k).1 = ref := by rfl) (hfin : (T k).2.2.2 = false := by rfl) (hf : (fT ci)[k]? = some true := by rfl) : W p l e R s m args below meth c H locs cells slots Q (F0 m pc ls (rv ad v :: rv ad pl :: rest)) :=
  ph_putr X hin ty0 hty hnm hP hk hci hc hkN hf hlink hr hfin  ht hv hdg (fun H1 locs1 q => kk H1 locs1 (setg g pl k v) q ⟨rfl, rfl, rfl⟩ (hF _ rfl))
theorem hg_puti (ci k : Nat) {index N : Nat} {C ref : String} {T : u_T} (X : CX p s m args c meth cc nL ret own D dA ad A) (hin : ∀ w ∈ u_ws C T N, w ∈ lw_all) (ty0 : Nat → FieldType) (hty : ∀ k, k < N → parseFieldDescriptor (T k).2.2.1 = some (ty0 k)) (hnm : ∀ a, a < N → ∀ b, b < N → a ≠ b → (T a).2.1 ≠ (T b).2.1) (hP : PW D dA A s.heap ad (HS g ι) H locs) (hk : gK g pl = ci + 1) (hlink : Cond.fieldLink own index ref (T k).2.1 (T k).2.2.1 ∈ lw_all) (hdg : decode cc pc = .ok (.putfield index, 3)) {v : Int32} {P : S → Prop} (hn : narrow (ty0 k) (.int v) = .int v) (hfit : fits (ty0 k) (.int v) = true) (hF : ∀ ι', ι' = up2 ι pl k v → P ι')
    (kk : ∀ (H1 : Heap) (locs1 : List Loc) (ι' : S), PW D dA A s.heap ad (HS g ι') H1 locs1 → P ι' → W p l e R s m args below meth c H1 locs1 cells slots Q (F0 m (pc + 3) ls rest)) (hci : ci < 99 := by exact Nat.le_of_ble_eq_true rfl) (hc : CL[ci]? = some (C, T, N) := by rfl) (hkN : k < N := by exact Nat.le_of_ble_eq_true rfl) (hr : (T k).1 = ref := by rfl) (hfin : (T k).2.2.2 = false := by rfl) (hf : (fT ci)[k]? = some false := by rfl) : W p l e R s m args below meth c H locs cells slots Q (F0 m pc ls (.int v :: rv ad pl :: rest)) :=
  ph_puti X hin ty0 hty hnm hP hk hci hc hkN hf hlink hr hfin  hn hfit hdg (fun H1 locs1 q => kk H1 locs1 _ q (hF _ rfl))
theorem hg_putrN (ci k : Nat) {index N : Nat} {C ref : String} {T : u_T} {host : String} (X : CX p s m args c meth cc nL ret own D dA ad A) (hin : ∀ w ∈ u_ws C T N, w ∈ lw_all) (ty0 : Nat → FieldType) (hty : ∀ k, k < N → parseFieldDescriptor (T k).2.2.1 = some (ty0 k)) (hnm : ∀ a, a < N → ∀ b, b < N → a ≠ b → (T a).2.1 ≠ (T b).2.1) (hP : PW D dA A s.heap ad (HS g ι) H locs) (hk : gK g pl = ci + 1) (hlink : Cond.fieldLinkNest own index ref (T k).2.1 (T k).2.2.1 host ∈ lw_tbl) (hdg : decode cc pc = .ok (.putfield index, 3)) {v : Nat} {P : GT → Prop} (hv : v < 200 + gN g) (hF : ∀ g', g' = setg g pl k v → P g')
    (kk : ∀ (H1 : Heap) (locs1 : List Loc) (g' : GT), PW D dA A s.heap ad (HS g' ι) H1 locs1 → gN g' = gN g ∧ gK g' = gK g ∧ gL g' = gL g → P g' → W p l e R s m args below meth c H1 locs1 cells slots Q (F0 m (pc + 3) ls rest)) (ht : (∃ n, ty0 k = .object n) ∨ ∃ t, ty0 k = .array t) (hci : ci < 99 := by exact Nat.le_of_ble_eq_true rfl) (hc : CL[ci]? = some (C, T, N) := by rfl) (hkN : k < N := by exact Nat.le_of_ble_eq_true rfl) (hr : (T k).1 = ref := by rfl) (hfin : (T k).2.2.2 = false := by rfl) (hf : (fT ci)[k]? = some true := by rfl) : W p l e R s m args below meth c H locs cells slots Q (F0 m pc ls (rv ad v :: rv ad pl :: rest)) :=
  ph_putrN X hin ty0 hty hnm hP hk hci hc hkN hf hlink hr hfin  ht hv hdg (fun H1 locs1 q => kk H1 locs1 (setg g pl k v) q ⟨rfl, rfl, rfl⟩ (hF _ rfl))
theorem hg_putiN (ci k : Nat) {index N : Nat} {C ref : String} {T : u_T} {host : String} (X : CX p s m args c meth cc nL ret own D dA ad A) (hin : ∀ w ∈ u_ws C T N, w ∈ lw_all) (ty0 : Nat → FieldType) (hty : ∀ k, k < N → parseFieldDescriptor (T k).2.2.1 = some (ty0 k)) (hnm : ∀ a, a < N → ∀ b, b < N → a ≠ b → (T a).2.1 ≠ (T b).2.1) (hP : PW D dA A s.heap ad (HS g ι) H locs) (hk : gK g pl = ci + 1) (hlink : Cond.fieldLinkNest own index ref (T k).2.1 (T k).2.2.1 host ∈ lw_tbl) (hdg : decode cc pc = .ok (.putfield index, 3)) {v : Int32} {P : S → Prop} (hn : narrow (ty0 k) (.int v) = .int v) (hfit : fits (ty0 k) (.int v) = true) (hF : ∀ ι', ι' = up2 ι pl k v → P ι')
    (kk : ∀ (H1 : Heap) (locs1 : List Loc) (ι' : S), PW D dA A s.heap ad (HS g ι') H1 locs1 → P ι' → W p l e R s m args below meth c H1 locs1 cells slots Q (F0 m (pc + 3) ls rest)) (hci : ci < 99 := by exact Nat.le_of_ble_eq_true rfl) (hc : CL[ci]? = some (C, T, N) := by rfl) (hkN : k < N := by exact Nat.le_of_ble_eq_true rfl) (hr : (T k).1 = ref := by rfl) (hfin : (T k).2.2.2 = false := by rfl) (hf : (fT ci)[k]? = some false := by rfl) : W p l e R s m args below meth c H locs cells slots Q (F0 m pc ls (.int v :: rv ad pl :: rest)) :=
  ph_putiN X hin ty0 hty hnm hP hk hci hc hkN hf hlink hr hfin  hn hfit hdg (fun H1 locs1 q => kk H1 locs1 _ q (hF _ rfl))
theorem hg_putrF (ci k : Nat) {index N : Nat} {C ref : String} {T : u_T} (X : CX p s m args c meth cc nL ret own D dA ad A) (hin : ∀ w ∈ u_ws C T N, w ∈ lw_all) (ty0 : Nat → FieldType) (hty : ∀ k, k < N → parseFieldDescriptor (T k).2.2.1 = some (ty0 k)) (hnm : ∀ a, a < N → ∀ b, b < N → a ≠ b → (T a).2.1 ≠ (T b).2.1) (hP : PW D dA A s.heap ad (HS g ι) H locs) (hk : gK g pl = ci + 1) (hlink : Cond.fieldLink own index ref (T k).2.1 (T k).2.2.1 ∈ lw_all) (hnm2 : meth.name = "<init>") (hdg : decode cc pc = .ok (.putfield index, 3)) {v : Nat} {P : GT → Prop} (hv : v < 200 + gN g) (hF : ∀ g', g' = setg g pl k v → P g')
    (kk : ∀ (H1 : Heap) (locs1 : List Loc) (g' : GT), PW D dA A s.heap ad (HS g' ι) H1 locs1 → gN g' = gN g ∧ gK g' = gK g ∧ gL g' = gL g → P g' → W p l e R s m args below meth c H1 locs1 cells slots Q (F0 m (pc + 3) ls rest)) (ht : (∃ n, ty0 k = .object n) ∨ ∃ t, ty0 k = .array t) (hci : ci < 99 := by exact Nat.le_of_ble_eq_true rfl) (hc : CL[ci]? = some (C, T, N) := by rfl) (hkN : k < N := by exact Nat.le_of_ble_eq_true rfl) (hr : (T k).1 = ref := by rfl) (hfin : (T k).2.2.2 = true := by rfl) (hdecl : (T k).1 = own := by rfl) (hf : (fT ci)[k]? = some true := by rfl) : W p l e R s m args below meth c H locs cells slots Q (F0 m pc ls (rv ad v :: rv ad pl :: rest)) :=
  ph_putrF X hin ty0 hty hnm hP hk hci hc hkN hf hlink hr hfin hnm2 hdecl ht hv hdg (fun H1 locs1 q => kk H1 locs1 (setg g pl k v) q ⟨rfl, rfl, rfl⟩ (hF _ rfl))
theorem hg_putiF (ci k : Nat) {index N : Nat} {C ref : String} {T : u_T} (X : CX p s m args c meth cc nL ret own D dA ad A) (hin : ∀ w ∈ u_ws C T N, w ∈ lw_all) (ty0 : Nat → FieldType) (hty : ∀ k, k < N → parseFieldDescriptor (T k).2.2.1 = some (ty0 k)) (hnm : ∀ a, a < N → ∀ b, b < N → a ≠ b → (T a).2.1 ≠ (T b).2.1) (hP : PW D dA A s.heap ad (HS g ι) H locs) (hk : gK g pl = ci + 1) (hlink : Cond.fieldLink own index ref (T k).2.1 (T k).2.2.1 ∈ lw_all) (hnm2 : meth.name = "<init>") (hdg : decode cc pc = .ok (.putfield index, 3)) {v : Int32} {P : S → Prop} (hn : narrow (ty0 k) (.int v) = .int v) (hfit : fits (ty0 k) (.int v) = true) (hF : ∀ ι', ι' = up2 ι pl k v → P ι')
    (kk : ∀ (H1 : Heap) (locs1 : List Loc) (ι' : S), PW D dA A s.heap ad (HS g ι') H1 locs1 → P ι' → W p l e R s m args below meth c H1 locs1 cells slots Q (F0 m (pc + 3) ls rest)) (hci : ci < 99 := by exact Nat.le_of_ble_eq_true rfl) (hc : CL[ci]? = some (C, T, N) := by rfl) (hkN : k < N := by exact Nat.le_of_ble_eq_true rfl) (hr : (T k).1 = ref := by rfl) (hfin : (T k).2.2.2 = true := by rfl) (hdecl : (T k).1 = own := by rfl) (hf : (fT ci)[k]? = some false := by rfl) : W p l e R s m args below meth c H locs cells slots Q (F0 m pc ls (.int v :: rv ad pl :: rest)) :=
  ph_putiF X hin ty0 hty hnm hP hk hci hc hkN hf hlink hr hfin hnm2 hdecl hn hfit hdg (fun H1 locs1 q => kk H1 locs1 _ q (hF _ rfl))
theorem hg_getiX (ci k : Nat) {index N : Nat} {C ref : String} {T : u_T} (X : CX p s m args c meth cc nL ret own D dA ad A) (hin : ∀ w ∈ u_ws C T N, w ∈ lw_all) (hP : PW D dA A s.heap ad (HS g ι) H locs) (hk : gK g pl = ci + 1) (hlink : Cond.fieldLink own index ref (T k).2.1 (T k).2.2.1 ∈ lw_all) (hsf : Cond.sameField ref (T k).1 (T k).2.1 (T k).2.2.1 ∈ lw_all) (hdg : decode cc pc = .ok (.getfield index, 3))
    (kk : W p l e R s m args below meth c H locs cells slots Q (F0 m (pc + 3) ls (.int (ι pl k) :: rest))) (hci : ci < 99 := by exact Nat.le_of_ble_eq_true rfl) (hc : CL[ci]? = some (C, T, N) := by rfl) (hkN : k < N := by exact Nat.le_of_ble_eq_true rfl) (hf : (fT ci)[k]? = some false := by rfl) : W p l e R s m args below meth c H locs cells slots Q (F0 m pc ls (rv ad pl :: rest)) := by
  obtain ⟨hx, hb, hml, hown, hts, hA, hkb, -, -⟩ := X
  obtain ⟨P1, P2, P3, P4⟩ := hP
  have hk : hK (HS g ι) pl = ci + 1 := hk
  rw [rv_nz (pl_nz P4 hk (by omega) (by omega))]
  refine va_get (C := C) (T := T) (N := N) (ci := ci) (k := k) (ref := ref) hx hb hts hin hown hkb.1 P1 (pl - 200) (ent_o P4 hk hci) hc hkN (hts _ hlink) (fun x q => u_same (hts _ hsf) x q) (mkF_get (fT ci) 0 k false hf) hdg ?_
  rw [Nat.zero_add]
  exact kk
theorem hg_getrX (ci k : Nat) {index N : Nat} {C ref : String} {T : u_T} (X : CX p s m args c meth cc nL ret own D dA ad A) (hin : ∀ w ∈ u_ws C T N, w ∈ lw_all) (hP : PW D dA A s.heap ad (HS g ι) H locs) (hk : gK g pl = ci + 1) (hlink : Cond.fieldLink own index ref (T k).2.1 (T k).2.2.1 ∈ lw_all) (hsf : Cond.sameField ref (T k).1 (T k).2.1 (T k).2.2.1 ∈ lw_all) (hdg : decode cc pc = .ok (.getfield index, 3))
    (kk : W p l e R s m args below meth c H locs cells slots Q (F0 m (pc + 3) ls (rv ad (gR g pl k) :: rest))) (hci : ci < 99 := by exact Nat.le_of_ble_eq_true rfl) (hc : CL[ci]? = some (C, T, N) := by rfl) (hkN : k < N := by exact Nat.le_of_ble_eq_true rfl) (hf : (fT ci)[k]? = some true := by rfl) : W p l e R s m args below meth c H locs cells slots Q (F0 m pc ls (rv ad pl :: rest)) := by
  obtain ⟨hx, hb, hml, hown, hts, hA, hkb, -, -⟩ := X
  obtain ⟨P1, P2, P3, P4⟩ := hP
  have hk : hK (HS g ι) pl = ci + 1 := hk
  rw [rv_nz (pl_nz P4 hk (by omega) (by omega))]
  refine va_get (C := C) (T := T) (N := N) (ci := ci) (k := k) (ref := ref) hx hb hts hin hown hkb.1 P1 (pl - 200) (ent_o P4 hk hci) hc hkN (hts _ hlink) (fun x q => u_same (hts _ hsf) x q) (mkF_get (fT ci) 0 k true hf) hdg ?_
  rw [Nat.zero_add]
  exact kk
theorem hg_putiX (ci k : Nat) {index N : Nat} {C ref : String} {T : u_T} (X : CX p s m args c meth cc nL ret own D dA ad A) (hin : ∀ w ∈ u_ws C T N, w ∈ lw_all) (ty0 : Nat → FieldType) (hty : ∀ k, k < N → parseFieldDescriptor (T k).2.2.1 = some (ty0 k)) (hnm : ∀ a, a < N → ∀ b, b < N → a ≠ b → (T a).2.1 ≠ (T b).2.1) (hP : PW D dA A s.heap ad (HS g ι) H locs) (hk : gK g pl = ci + 1) (hlink : Cond.fieldLink own index ref (T k).2.1 (T k).2.2.1 ∈ lw_all) (hsf : Cond.sameField ref (T k).1 (T k).2.1 (T k).2.2.1 ∈ lw_all) (hdg : decode cc pc = .ok (.putfield index, 3)) {v : Int32} {P : S → Prop} (hn : narrow (ty0 k) (.int v) = .int v) (hfit : fits (ty0 k) (.int v) = true) (hF : ∀ ι', ι' = up2 ι pl k v → P ι')
    (kk : ∀ (H1 : Heap) (locs1 : List Loc) (ι' : S), PW D dA A s.heap ad (HS g ι') H1 locs1 → P ι' → W p l e R s m args below meth c H1 locs1 cells slots Q (F0 m (pc + 3) ls rest)) (hci : ci < 99 := by exact Nat.le_of_ble_eq_true rfl) (hc : CL[ci]? = some (C, T, N) := by rfl) (hkN : k < N := by exact Nat.le_of_ble_eq_true rfl) (hfin : (T k).2.2.2 = false := by rfl) (hf : (fT ci)[k]? = some false := by rfl) : W p l e R s m args below meth c H locs cells slots Q (F0 m pc ls (.int v :: rv ad pl :: rest)) := by
  obtain ⟨hx, hb, hml, hown, hts, hA, hkb, -, -⟩ := X
  obtain ⟨P1, P2, P3, P4⟩ := hP
  have hk : hK (HS g ι) pl = ci + 1 := hk
  rw [rv_nz (v := pl) (pl_nz P4 hk (by omega) (by omega))]
  exact va_put (C := C) (T := T) (N := N) (ci := ci) (k := k) (ref := ref) hx hb hts hin ty0 hty hnm hown hkb.1 P1 P2 P3 (pl - 200) (ent_o P4 hk hci) hc hkN (hts _ hlink) (fun x q => u_same (hts _ hsf) x q) hfin (hty k hkN) hn hfit (fT_lt hf) hdg (fun H1 locs1 q1 q2 q3 => kk H1 locs1 _ (pw_setI P4 hk hci hf q1 q2 q3) (hF _ rfl))
def isElt (c : Nat) : Prop := c = 6 ∨ c = 14 ∨ c = 15 ∨ c = 16 ∨ c = 17
theorem pw_setQ {H1 : Heap} {locs1 : List Loc} {H0 : Heap} {h : HT} {c : Nat} {f : Nat → Nat} (w : WFH h) (hk : hK h pl = c) (h110 : 110 ≤ c) (h1000 : c < 1000) (hv : ∀ j, f j < 200 + hN h)
    (q1 : va_P D CL ((PL dA ad h).set (pl - 200) (ad pl, .inl (dA c, hL h pl, .inr (.inr (.inr (.inr (fun k => ro ad (f k)))))))) H1) (q2 : va_D A ((PL dA ad h).set (pl - 200) (ad pl, .inl (dA c, hL h pl, .inr (.inr (.inr (.inr (fun k => ro ad (f k))))))))) (q3 : va_S A H0 H1 locs1) : PW D dA A H0 ad (setRA h pl f) H1 locs1 := by
  obtain ⟨h0, h1⟩ := wfh_live w hk (by omega) (by omega)
  have e : (PL dA ad h).set (pl - 200) (ad pl, .inl (dA c, hL h pl, .inr (.inr (.inr (.inr (fun k => ro ad (f k))))))) = PL dA ad (setRA h pl f) := by
    refine PL_set h0 h1 rfl (fun q hq => entv_ext rfl rfl rfl (if_neg hq)) ?_
    rw [entv_q (h := setRA h pl f) hk h110]
    rw [show hR (setRA h pl f) pl = f from if_pos rfl]
    rfl
  rw [e] at q1 q2
  exact ⟨q1, q2, q3, wfh_setRA w h0 hv⟩
theorem hg_aast {i : Int32} {k v : Nat} {P : GT → Prop} (X : CX p s m args c meth cc nL ret own D dA ad A) (hP : PW D dA A s.heap ad (HS g ι) H locs) (hk : gK g pl = 110) (hin : vp_in i (gL g pl)) (hi : i.toNatClampNeg = k) (hv : v = 0 ∨ isElt (gK g v)) (hdg : decode cc pc = .ok (.aastore, 1)) (hF : ∀ g', g' = setg g pl k v → P g')
    (kk : ∀ (H1 : Heap) (locs1 : List Loc) (g' : GT), PW D dA A s.heap ad (HS g' ι) H1 locs1 → gN g' = gN g ∧ gK g' = gK g ∧ gL g' = gL g → P g' → W p l e R s m args below meth c H1 locs1 cells slots Q (F0 m (pc + 1) ls rest)) : W p l e R s m args below meth c H locs cells slots Q (F0 m pc ls (rv ad v :: .int i :: rv ad pl :: rest)) := by
  subst hi
  obtain ⟨P1, P2, P3, P4⟩ := hP
  have hk : hK (HS g ι) pl = 110 := hk
  rw [rv_nz (v := pl) (pl_nz P4 hk (by omega) (by omega))]
  have hro : ∀ (w : Nat) (o : Option Nat), o = ro ad w → va_up (fun k => ro ad (hR (HS g ι) pl k)) i.toNatClampNeg o = fun k => ro ad (va_up (hR (HS g ι) pl) i.toNatClampNeg w k) := by
    intro w o ho
    funext j
    unfold va_up
    split
    · exact ho
    · rfl
  have hw : ∀ w, w < 200 + gN g → ∀ j, va_up (hR (HS g ι) pl) i.toNatClampNeg w j < 200 + hN (HS g ι) := by
    intro w hw j
    unfold va_up
    split
    · exact hw
    · exact P4.2.2.1 pl j
  have end9 : ∀ (w : Nat) (H1 : Heap) (locs1 : List Loc), w < 200 + gN g → w = v → va_P D CL ((PL dA ad (HS g ι)).set (pl - 200) (ad pl, .inl (dA 110, hL (HS g ι) pl, .inr (.inr (.inr (.inr (va_up (fun k => ro ad (hR (HS g ι) pl k)) i.toNatClampNeg (ro ad w)))))))) H1 → va_D A ((PL dA ad (HS g ι)).set (pl - 200) (ad pl, .inl (dA 110, hL (HS g ι) pl, .inr (.inr (.inr (.inr (va_up (fun k => ro ad (hR (HS g ι) pl k)) i.toNatClampNeg (ro ad w)))))))) → va_S A s.heap H1 locs1 → W p l e R s m args below meth c H1 locs1 cells slots Q (F0 m (pc + 1) ls rest) := by
    intro w H1 locs1 hw9 e q1 q2 q3
    subst e
    rw [hro w _ rfl] at q1 q2
    exact kk H1 locs1 (setg g pl i.toNatClampNeg w) (pw_setQ P4 hk (by omega) (by omega) (hw w hw9) q1 q2 q3) ⟨rfl, rfl, rfl⟩ (hF _ rfl)
  rcases hv with rfl | hv
  · exact va_astqN X.1 X.2.1 X.2.2.2.2.2.2.1.1 P1 P2 P3 (pl - 200) 3 (ent_q P4 hk (by omega) (by omega)) (ty_get rfl) hin hdg (fun H1 locs1 q1 q2 q3 => end9 0 H1 locs1 (by omega) rfl q1 q2 q3)
  · have go : ∀ (ci : Nat) (r : vw_C), CL[ci]? = some r → ci < 99 → gK g v = ci + 1 → Cond.castable r.1 "java/lang/Object" ∈ lw_tbl → W p l e R s m args below meth c H locs cells slots Q (F0 m pc ls (rv ad v :: .int i :: .ref (ad pl) :: rest)) := by
      intro ci r hc hci hkv hca
      have hkv : hK (HS g ι) v = ci + 1 := hkv
      have h1 := wfh_live P4 hkv (by omega) (by omega)
      have hnz : v ≠ 0 := by omega
      rw [rv_nz hnz]
      refine va_astqO X.1 X.2.1 X.2.2.2.2.2.2.1.1 P1 P2 P3 (pl - 200) 3 (v - 200) ci (ent_q P4 hk (by omega) (by omega)) (ty_get rfl) (X.2.2.2.2.2.2.1.2.1 _ hca rfl) (ent_o P4 hkv hci) hc hin hdg (fun H1 locs1 q1 q2 q3 => end9 v H1 locs1 h1.2 rfl ?_ ?_ q3)
      · rw [show ro ad v = some (ad v) from if_neg hnz]; exact q1
      · rw [show ro ad v = some (ad v) from if_neg hnz]; exact q2
    rcases hv with h | h | h | h | h
    · exact go 5 _ rfl (by decide) h q2409
    · exact go 13 _ rfl (by decide) h q2422
    · exact go 14 _ rfl (by decide) h q2420
    · exact go 15 _ rfl (by decide) h q2419
    · exact go 16 _ rfl (by decide) h q2421
theorem pw_new {H1 : Heap} {locs1 : List Loc} {kc n q : Nat} {e9 : va_E} (hP : PW D dA A s.heap ad (HS g ι) H locs) (X : CX p s m args c meth cc nL ret own D dA ad A) (hA0 : HA ad0 g0 ad g) (hkc : kc ≠ 0) (he : entv dA (va_up ad (200 + gN g) q) (newp (HS g ι) kc n) (200 + gN g) = e9) (q1 : va_P D CL (PL dA ad (HS g ι) ++ [(q, e9)]) H1) (q2 : va_D A (PL dA ad (HS g ι) ++ [(q, e9)])) (q3 : va_S A s.heap H1 locs1) :
    CX p s m args c meth cc nL ret own D dA (va_up ad (200 + gN g) q) A ∧ PW D dA A s.heap (va_up ad (200 + gN g) q) (HS (newg g kc n) (newi g ι)) H1 locs1 ∧ HA ad0 g0 (va_up ad (200 + gN g) q) (newg g kc n) := by
  have h1 : ∀ p, p < 200 + gN g → va_up ad (200 + gN g) q p = ad p := fun p hp => if_neg (Nat.ne_of_lt hp)
  have e := PL_push (dA := dA) (ad := ad) (q := q) hP.2.2.2 he
  rw [e] at q1 q2
  exact ⟨cx_ad X (fun p hp => h1 p (by omega)), ⟨q1, q2, q3, wfh_newp hP.2.2.2 hkc⟩, hA0.tr ⟨Nat.le_succ _, h1⟩⟩
theorem hg_new (ci : Nat) (rs : List TV) {index N : Nat} {C : String} {T : u_T} {P : GT → S → Prop} (X : CX p s m args c meth cc nL ret own D dA ad A) (hP : PW D dA A s.heap ad (HS g ι) H locs) (hA0 : HA ad0 g0 ad g) (hl : LH ad ls nL lv) (hlv : LTl (200 + gN g) lv) (hrs : LTs (200 + gN g) rs) (hin : ∀ w ∈ u_ws C T N, w ∈ lw_all) (ty0 : Nat → FieldType) (hty : ∀ k, k < N → parseFieldDescriptor (T k).2.2.1 = some (ty0 k)) (hdf : ∀ j, j < N → defaultValue (ty0 j) = vp_V (mkF (fun _ => 0) (fun _ => 0) (fun _ => 0) (fT ci) 0) j) (hcl : Cond.classLink own index C ∈ lw_all) (hinst : Cond.instantiable C N ∈ lw_all) (hini : Cond.initialized C ∈ lw_all) (hroom : cells + 1 ≤ R.cells ∧ slots + N ≤ R.slots) (hdg : decode cc pc = .ok (.new index, 3)) (hst : st0 = rs.map (tv ad)) (hF : ∀ g' ι', g' = newg g (ci + 1) 0 → ι' = newi g ι → P g' ι')
    (kk : ∀ (H1 : Heap) (ad' : Nat → Nat) (g' : GT) (ι' : S), CX p s m args c meth cc nL ret own D dA ad' A → PW D dA A s.heap ad' (HS g' ι') H1 locs → HA ad0 g0 ad' g' → gN g + 1 ≤ gN g' → (gK g' (200 + gN g) = ci + 1 ∧ ∀ v, v < 200 + gN g → gK g' v = gK g v) → LH ad' ls nL lv → P g' ι' → W p l e R s m args below meth c H1 locs (cells + 1) (slots + N) Q (F0 m (pc + 3) ls (rv ad' (200 + gN g) :: rs.map (tv ad')))) (hci : ci < 99 := by exact Nat.le_of_ble_eq_true rfl) (hc : CL[ci]? = some (C, T, N) := by rfl) : W p l e R s m args below meth c H locs cells slots Q (F0 m pc ls st0) := by
  subst hst
  refine va_new X.1 X.2.1 X.2.2.2.2.1 hin ty0 hty X.2.2.2.1 (X.2.2.2.2.1 _ hcl) (X.2.2.2.2.1 _ hinst) (X.2.2.2.2.1 _ hini) X.2.2.2.2.2.2.1.1 hP.1 hP.2.1 hP.2.2.1 X.2.2.2.2.2.1 hc hdf hroom.1 hroom.2 hdg (fun q H1 q1 q2 q3 => ?_)
  have he : entv dA (va_up ad (200 + gN g) q) (newp (HS g ι) (ci + 1) 0) (200 + gN g) = .inr (ci, mkF (fun _ => 0) (fun _ => 0) (fun _ => 0) (fT ci) 0) := by
    rw [entv_o (c := ci) (show hK (newp (HS g ι) (ci + 1) 0) (200 + gN g) = ci + 1 from if_pos rfl) hci]
    rw [show hI (newp (HS g ι) (ci + 1) 0) (200 + gN g) = fun _ => 0 from if_pos rfl, show hR (newp (HS g ι) (ci + 1) 0) (200 + gN g) = fun _ => 0 from if_pos rfl]
    congr 2
    exact mkF_ext _ 0 (fun _ _ => rfl) (fun _ _ => rfl)
  obtain ⟨X', hP', hA'⟩ := pw_new hP X hA0 (Nat.succ_ne_zero ci) he q1 q2 q3
  have h1 : ∀ p, p < 200 + gN g → va_up ad (200 + gN g) q p = ad p := fun p hp => if_neg (Nat.ne_of_lt hp)
  have := kk H1 _ _ _ X' hP' hA' (Nat.le_refl _) ⟨if_pos rfl, fun v hv => if_neg (Nat.ne_of_lt hv)⟩ (lh_new hl hlv h1) (hF _ _ rfl rfl)
  rw [tvs_new hrs h1, rv_nz (by omega), show va_up ad (200 + gN g) q (200 + gN g) = q from if_pos rfl] at this
  exact this
theorem hg_newaI (rs : List TV) {n : Int32} {N' : Nat} {P : GT → S → Prop} (X : CX p s m args c meth cc nL ret own D dA ad A) (hP : PW D dA A s.heap ad (HS g ι) H locs) (hA0 : HA ad0 g0 ad g) (hl : LH ad ls nL lv) (hlv : LTl (200 + gN g) lv) (hrs : LTs (200 + gN g) rs) (harr : Cond.arrayClass .int ∈ lw_all) (hn : ¬ n < 0) (hN : n.toNatClampNeg = N') (hbytes : N' ≤ 100000000) (hroom : cells + 1 ≤ R.cells ∧ slots + N' ≤ R.slots) (hdg : decode cc pc = .ok (.newarray .int, 2)) (hst : st0 = .int n :: rs.map (tv ad)) (hF : ∀ g' ι', g' = newg g 100 N' → ι' = newi g ι → P g' ι')
    (kk : ∀ (H1 : Heap) (ad' : Nat → Nat) (g' : GT) (ι' : S), CX p s m args c meth cc nL ret own D dA ad' A → PW D dA A s.heap ad' (HS g' ι') H1 locs → HA ad0 g0 ad' g' → gN g + 1 ≤ gN g' → (gK g' (200 + gN g) = 100 ∧ ∀ v, v < 200 + gN g → gK g' v = gK g v) → LH ad' ls nL lv → P g' ι' → W p l e R s m args below meth c H1 locs (cells + 1) (slots + N') Q (F0 m (pc + 2) ls (rv ad' (200 + gN g) :: rs.map (tv ad')))) : W p l e R s m args below meth c H locs cells slots Q (F0 m pc ls st0) := by
  subst hst
  refine va_newa (atype := .int) X.1 X.2.1 (X.2.2.2.2.1 _ harr) (ty := .int) rfl X.2.2.2.2.2.2.1.1 hP.1 hP.2.1 hP.2.2.1 X.2.2.2.2.2.1 (a0 := (N', .inl (fun _ => 0))) (fun cA => rfl) hn hN (bytes_ok hbytes (by decide +kernel)) hroom.1 hroom.2 hdg (fun q cA H1 hK' q1 q2 q3 => ?_)
  have hcA : cA = dA 100 := Option.some.inj ((show s.vm.findClass _ = some cA from (hK'.2 7 (cA, .int) rfl).2).symm.trans (X.2.2.2.2.2.2.1.1.2 0 (dA 100, .int) rfl).2)
  subst hcA
  have he : entv dA (va_up ad (200 + gN g) q) (newp (HS g ι) 100 N') (200 + gN g) = .inl (dA 100, N', .inl (fun _ => 0)) := by
    rw [entv_a (c := 100) (show hK (newp (HS g ι) 100 N') (200 + gN g) = 100 from if_pos rfl) (by omega) (by omega)]
    rw [show hI (newp (HS g ι) 100 N') (200 + gN g) = fun _ => 0 from if_pos rfl, show hL (newp (HS g ι) 100 N') (200 + gN g) = N' from if_pos rfl]
  obtain ⟨X', hP', hA'⟩ := pw_new hP X hA0 (by decide) he q1 q2 q3
  have h1 : ∀ p, p < 200 + gN g → va_up ad (200 + gN g) q p = ad p := fun p hp => if_neg (Nat.ne_of_lt hp)
  have := kk H1 _ _ _ X' hP' hA' (Nat.le_refl _) ⟨if_pos rfl, fun v hv => if_neg (Nat.ne_of_lt hv)⟩ (lh_new hl hlv h1) (hF _ _ rfl rfl)
  rw [tvs_new hrs h1, rv_nz (by omega), show va_up ad (200 + gN g) q (200 + gN g) = q from if_pos rfl] at this
  exact this
theorem hg_newaB (rs : List TV) {n : Int32} {N' : Nat} {P : GT → S → Prop} (X : CX p s m args c meth cc nL ret own D dA ad A) (hP : PW D dA A s.heap ad (HS g ι) H locs) (hA0 : HA ad0 g0 ad g) (hl : LH ad ls nL lv) (hlv : LTl (200 + gN g) lv) (hrs : LTs (200 + gN g) rs) (harr : Cond.arrayClass .byte ∈ lw_all) (hn : ¬ n < 0) (hN : n.toNatClampNeg = N') (hbytes : N' ≤ 100000000) (hroom : cells + 1 ≤ R.cells ∧ slots + N' ≤ R.slots) (hdg : decode cc pc = .ok (.newarray .byte, 2)) (hst : st0 = .int n :: rs.map (tv ad)) (hF : ∀ g' ι', g' = newg g 101 N' → ι' = newi g ι → P g' ι')
    (kk : ∀ (H1 : Heap) (ad' : Nat → Nat) (g' : GT) (ι' : S), CX p s m args c meth cc nL ret own D dA ad' A → PW D dA A s.heap ad' (HS g' ι') H1 locs → HA ad0 g0 ad' g' → gN g + 1 ≤ gN g' → (gK g' (200 + gN g) = 101 ∧ ∀ v, v < 200 + gN g → gK g' v = gK g v) → LH ad' ls nL lv → P g' ι' → W p l e R s m args below meth c H1 locs (cells + 1) (slots + N') Q (F0 m (pc + 2) ls (rv ad' (200 + gN g) :: rs.map (tv ad')))) : W p l e R s m args below meth c H locs cells slots Q (F0 m pc ls st0) := by
  subst hst
  refine va_newa (atype := .byte) X.1 X.2.1 (X.2.2.2.2.1 _ harr) (ty := .byte) rfl X.2.2.2.2.2.2.1.1 hP.1 hP.2.1 hP.2.2.1 X.2.2.2.2.2.1 (a0 := (N', .inl (fun _ => 0))) (fun cA => rfl) hn hN (bytes_ok hbytes (by decide +kernel)) hroom.1 hroom.2 hdg (fun q cA H1 hK' q1 q2 q3 => ?_)
  have hcA : cA = dA 101 := Option.some.inj ((show s.vm.findClass _ = some cA from (hK'.2 7 (cA, .byte) rfl).2).symm.trans (X.2.2.2.2.2.2.1.1.2 1 (dA 101, .byte) rfl).2)
  subst hcA
  have he : entv dA (va_up ad (200 + gN g) q) (newp (HS g ι) 101 N') (200 + gN g) = .inl (dA 101, N', .inl (fun _ => 0)) := by
    rw [entv_a (c := 101) (show hK (newp (HS g ι) 101 N') (200 + gN g) = 101 from if_pos rfl) (by omega) (by omega)]
    rw [show hI (newp (HS g ι) 101 N') (200 + gN g) = fun _ => 0 from if_pos rfl, show hL (newp (HS g ι) 101 N') (200 + gN g) = N' from if_pos rfl]
  obtain ⟨X', hP', hA'⟩ := pw_new hP X hA0 (by decide) he q1 q2 q3
  have h1 : ∀ p, p < 200 + gN g → va_up ad (200 + gN g) q p = ad p := fun p hp => if_neg (Nat.ne_of_lt hp)
  have := kk H1 _ _ _ X' hP' hA' (Nat.le_refl _) ⟨if_pos rfl, fun v hv => if_neg (Nat.ne_of_lt hv)⟩ (lh_new hl hlv h1) (hF _ _ rfl rfl)
  rw [tvs_new hrs h1, rv_nz (by omega), show va_up ad (200 + gN g) q (200 + gN g) = q from if_pos rfl] at this
  exact this
theorem hg_newaZ (rs : List TV) {n : Int32} {N' : Nat} {P : GT → S → Prop} (X : CX p s m args c meth cc nL ret own D dA ad A) (hP : PW D dA A s.heap ad (HS g ι) H locs) (hA0 : HA ad0 g0 ad g) (hl : LH ad ls nL lv) (hlv : LTl (200 + gN g) lv) (hrs : LTs (200 + gN g) rs) (harr : Cond.arrayClass .boolean ∈ lw_all) (hn : ¬ n < 0) (hN : n.toNatClampNeg = N') (hbytes : N' ≤ 100000000) (hroom : cells + 1 ≤ R.cells ∧ slots + N' ≤ R.slots) (hdg : decode cc pc = .ok (.newarray .boolean, 2)) (hst : st0 = .int n :: rs.map (tv ad)) (hF : ∀ g' ι', g' = newg g 102 N' → ι' = newi g ι → P g' ι')
    (kk : ∀ (H1 : Heap) (ad' : Nat → Nat) (g' : GT) (ι' : S), CX p s m args c meth cc nL ret own D dA ad' A → PW D dA A s.heap ad' (HS g' ι') H1 locs → HA ad0 g0 ad' g' → gN g + 1 ≤ gN g' → (gK g' (200 + gN g) = 102 ∧ ∀ v, v < 200 + gN g → gK g' v = gK g v) → LH ad' ls nL lv → P g' ι' → W p l e R s m args below meth c H1 locs (cells + 1) (slots + N') Q (F0 m (pc + 2) ls (rv ad' (200 + gN g) :: rs.map (tv ad')))) : W p l e R s m args below meth c H locs cells slots Q (F0 m pc ls st0) := by
  subst hst
  refine va_newa (atype := .boolean) X.1 X.2.1 (X.2.2.2.2.1 _ harr) (ty := .boolean) rfl X.2.2.2.2.2.2.1.1 hP.1 hP.2.1 hP.2.2.1 X.2.2.2.2.2.1 (a0 := (N', .inl (fun _ => 0))) (fun cA => rfl) hn hN (bytes_ok hbytes (by decide +kernel)) hroom.1 hroom.2 hdg (fun q cA H1 hK' q1 q2 q3 => ?_)
  have hcA : cA = dA 102 := Option.some.inj ((show s.vm.findClass _ = some cA from (hK'.2 7 (cA, .boolean) rfl).2).symm.trans (X.2.2.2.2.2.2.1.1.2 2 (dA 102, .boolean) rfl).2)
  subst hcA
  have he : entv dA (va_up ad (200 + gN g) q) (newp (HS g ι) 102 N') (200 + gN g) = .inl (dA 102, N', .inl (fun _ => 0)) := by
    rw [entv_a (c := 102) (show hK (newp (HS g ι) 102 N') (200 + gN g) = 102 from if_pos rfl) (by omega) (by omega)]
    rw [show hI (newp (HS g ι) 102 N') (200 + gN g) = fun _ => 0 from if_pos rfl, show hL (newp (HS g ι) 102 N') (200 + gN g) = N' from if_pos rfl]
  obtain ⟨X', hP', hA'⟩ := pw_new hP X hA0 (by decide) he q1 q2 q3
  have h1 : ∀ p, p < 200 + gN g → va_up ad (200 + gN g) q p = ad p := fun p hp => if_neg (Nat.ne_of_lt hp)
  have := kk H1 _ _ _ X' hP' hA' (Nat.le_refl _) ⟨if_pos rfl, fun v hv => if_neg (Nat.ne_of_lt hv)⟩ (lh_new hl hlv h1) (hF _ _ rfl rfl)
  rw [tvs_new hrs h1, rv_nz (by omega), show va_up ad (200 + gN g) q (200 + gN g) = q from if_pos rfl] at this
  exact this
theorem hg_newaO (rs : List TV) {index : Nat} {n : Int32} {N' : Nat} {P : GT → S → Prop} (X : CX p s m args c meth cc nL ret own D dA ad A) (hP : PW D dA A s.heap ad (HS g ι) H locs) (hA0 : HA ad0 g0 ad g) (hl : LH ad ls nL lv) (hlv : LTl (200 + gN g) lv) (hrs : LTs (200 + gN g) rs) (hcl : Cond.classLink own index "java/lang/Object" ∈ lw_all) (harr : Cond.arrayOver (.object "java/lang/Object") ∈ lw_tbl) (hn : ¬ n < 0) (hN : n.toNatClampNeg = N') (hbytes : N' ≤ 100000000) (hroom : cells + 1 ≤ R.cells ∧ slots + N' ≤ R.slots) (hdg : decode cc pc = .ok (.anewarray index, 3)) (hst : st0 = .int n :: rs.map (tv ad)) (hF : ∀ g' ι', g' = newg g 110 N' → ι' = newi g ι → P g' ι')
    (kk : ∀ (H1 : Heap) (ad' : Nat → Nat) (g' : GT) (ι' : S), CX p s m args c meth cc nL ret own D dA ad' A → PW D dA A s.heap ad' (HS g' ι') H1 locs → HA ad0 g0 ad' g' → gN g + 1 ≤ gN g' → (gK g' (200 + gN g) = 110 ∧ ∀ v, v < 200 + gN g → gK g' v = gK g v) → LH ad' ls nL lv → P g' ι' → W p l e R s m args below meth c H1 locs (cells + 1) (slots + N') Q (F0 m (pc + 3) ls (rv ad' (200 + gN g) :: rs.map (tv ad')))) : W p l e R s m args below meth c H locs cells slots Q (F0 m pc ls st0) := by
  subst hst
  refine va_newq X.1 X.2.1 X.2.2.2.1 (X.2.2.2.2.1 _ hcl) (X.2.2.2.2.2.2.1.2.1 _ harr rfl) X.2.2.2.2.2.2.1.1 hP.1 hP.2.1 hP.2.2.1 X.2.2.2.2.2.1 hn hN (by omega) hroom.1 hroom.2 hdg (fun q cA H1 hK' q1 q2 q3 => ?_)
  have hcA : cA = dA 110 := by
    obtain ⟨-, -, -, -, -, h4⟩ := (hK'.2 7 (cA, .object "java/lang/Object") rfl).2
    obtain ⟨-, -, -, -, -, h5⟩ := (X.2.2.2.2.2.2.1.1.2 3 (dA 110, .object "java/lang/Object") rfl).2
    exact Option.some.inj (h4.symm.trans h5)
  subst hcA
  have he : entv dA (va_up ad (200 + gN g) q) (newp (HS g ι) 110 N') (200 + gN g) = .inl (dA 110, N', .inr (.inr (.inr (.inr (fun _ => none))))) := by
    rw [entv_q (c := 110) (show hK (newp (HS g ι) 110 N') (200 + gN g) = 110 from if_pos rfl) (by omega)]
    rw [show hR (newp (HS g ι) 110 N') (200 + gN g) = fun _ => 0 from if_pos rfl, show hL (newp (HS g ι) 110 N') (200 + gN g) = N' from if_pos rfl]
    rfl
  obtain ⟨X', hP', hA'⟩ := pw_new hP X hA0 (by decide) he q1 q2 q3
  have h1 : ∀ p, p < 200 + gN g → va_up ad (200 + gN g) q p = ad p := fun p hp => if_neg (Nat.ne_of_lt hp)
  have := kk H1 _ _ _ X' hP' hA' (Nat.le_refl _) ⟨if_pos rfl, fun v hv => if_neg (Nat.ne_of_lt hv)⟩ (lh_new hl hlv h1) (hF _ _ rfl rfl)
  rw [tvs_new hrs h1, rv_nz (by omega), show va_up ad (200 + gN g) q (200 + gN g) = q from if_pos rfl] at this
  exact this
theorem obj_code : Cond.code Lib.objectInit ⟨#[0xb1]⟩ 1 none ∈ lw_all := q147
theorem hg_obj {index : Nat} (X : CX p s m args c meth cc nL ret own D dA ad A) (hl : LH ad ls nL lv) (hpl : pl ≠ 0) (hlink : Cond.methodLink own index ⟨"java/lang/Object", "<init>", "()V"⟩ ∈ lw_all) (hinst : Cond.instanceMethod ⟨"java/lang/Object", "<init>", "()V"⟩ ∈ lw_all) {k8 : Nat} (hrest : (rest.map fun v => v.category).sum ≤ k8) (h8 : k8 ≤ 8) (hR : 1 ≤ R.frames ∧ 20 ≤ R.locals) (hdg : decode cc pc = .ok (.invokespecial index, 3))
    (kk : W p l e R s m args below meth c H locs cells slots Q (F0 m (pc + 3) ls rest)) : W p l e R s m args below meth c H locs cells slots Q (F0 m pc ls (rv ad pl :: rest)) := by
  rw [rv_nz hpl]
  exact W.objInit X.1 X.2.1 X.2.2.2.1 (X.2.2.2.2.1 _ hlink) (X.2.2.2.2.1 _ hinst) (X.2.2.2.2.1 _ obj_code) (g := F0 m pc ls (.ref (ad pl) :: rest)) rfl (hl.1.trans X.2.2.1.symm) rfl hdg hR.1 (by show 2 * 0 + _ + 12 ≤ _; omega) kk
theorem sl_nz (hP : PW D dA A s.heap ad (HS g ι) H locs) (hk : isSl (gK g pl)) : pl ≠ 0 := by
  rcases hk with h | h | h | h
  · exact cg_nz hP (ci := 13) h (by decide)
  · exact cg_nz hP (ci := 14) h (by decide)
  · exact cg_nz hP (ci := 15) h (by decide)
  · exact cg_nz hP (ci := 16) h (by decide)
variable {y x : MethodName} {bytes : ByteArray} {maxL nA index N b1 s1 : Nat} {rt : FieldType} {rm : Room} {C owner : String} {T : u_T} {Q1 : Int32 → GT → S → Prop} {Qv1 : GT → S → Prop} {Qq1 : Nat → GT → S → Prop}
theorem hg_recv {as : List TV} (X : CX p s m args c meth cc nL ret own D dA ad A) (hP : PW D dA A s.heap ad (HS g ι) H locs) (hpl : pl ≠ 0) : ∀ U : State, U.heap = H → s.WarmedH U.vm → CPc D dA ad (HS g ι) H.size (pX pl :: as) (Value.ref (ad pl) :: as.map (tv ad)).toArray U := fun U hU hW => by
  have := ph_start X hP (pX pl :: as) hU hW
  rw [List.map_cons, show tv ad (pX pl) = rv ad pl from rfl, rv_nz hpl] at this
  exact this
theorem hg_callVi (ci : Nat) (as rs : List TV) (X : CX p s m args c meth cc nL ret own D dA ad A) (hP : PW D dA A s.heap ad (HS g ι) H locs) (hk : gK g pl = ci + 1) (hM : CHi l y bytes maxL rt rm D dA ad g ι H.size (pX pl :: as) Q1 b1 s1) (cw : CallW R s args own C index y bytes maxL (some rt) (ws_ y bytes maxL (some rt)) rm b1 s1 nA) (hn : as.length = nA) (hA0 : HA ad0 g0 ad g) (hl : LH ad ls nL lv) (hlv : LTl (200 + gN g) lv) (hrs : LTs (200 + gN g) rs) {k8 : Nat} (hrest : ((rs.map (tv ad)).map fun v => v.category).sum ≤ k8) (h8 : k8 ≤ 8) (hroom : cells + b1 ≤ R.cells ∧ slots + s1 ≤ R.slots) (hdg : decode cc pc = .ok (.invokevirtual index, 3)) (hst : st0 = (as.map (tv ad)).reverse ++ rv ad pl :: rs.map (tv ad))
    (kk : ∀ (r : Int32) (ad' : Nat → Nat) (g' : GT) (ι' : S) (H1 : Heap) (locs1 : List Loc), Q1 r g' ι' → CX p s m args c meth cc nL ret own D dA ad' A → PW D dA A s.heap ad' (HS g' ι') H1 locs1 → HA ad0 g0 ad' g' → gN g ≤ gN g' → LH ad' ls nL lv → W p l e R s m args below meth c H1 locs1 (cells + b1) (slots + s1) Q (F0 m (pc + 3) ls (.int r :: rs.map (tv ad')))) (hci : ci < 99 := by exact Nat.le_of_ble_eq_true rfl) (hc : CL[ci]? = some (C, T, N) := by rfl) : W p l e R s m args below meth c H locs cells slots Q (F0 m pc ls st0) := by
  subst hst
  have hpl : pl ≠ 0 := pl_nz hP.2.2.2 (pl := pl) (ci := ci + 1) hk (by omega) (by omega)
  rw [rv_nz hpl]
  exact va_calli (va_runV (As := as.map (tv ad)) (rest := rs.map (tv ad)) ⟨X.1, X.2.1, X.2.2.1, X.2.2.2.1, X.2.2.2.2.1⟩ hM cw ⟨cpc_blind, ph_recv X hP hk hci hc, hg_recv X hP hpl⟩ rfl (by rw [List.length_map]; exact hn) hl.1 rfl (lv_room (Nat.le_trans hrest h8)) hdg hroom) hP.2.2.1 (fun q _ hq => ph_free X hP q hq) (ph_free X hP) (fun r u t H1 locs1 ht hvm hq hB hz hk1 hS => by
    obtain ⟨h9, ad9⟩ := u
    obtain ⟨g', ι', rfl, hA', hq⟩ := hq
    have h1 := hA'.2
    have h2 := kk r _ g' ι' H1 locs1 hq (cx_ad X (fun p hp => h1 p (by omega))) (h_after X hP hB ht hS) (hA0.tr hA') hA'.1 (lh_new hl hlv h1)
    rw [tvs_new hrs h1] at h2
    exact h2)
theorem hg_callSi (as rs : List TV) (X : CX p s m args c meth cc nL ret own D dA ad A) (hP : PW D dA A s.heap ad (HS g ι) H locs) (hM : CHi l y bytes maxL rt rm D dA ad g ι H.size as Q1 b1 s1) (cw : CallB R s args own index y bytes maxL (some rt) (ws_ y bytes maxL (some rt)) rm b1 s1 nA ∧ (Cond.static y).before args s = true) (hn : as.length = nA) (hA0 : HA ad0 g0 ad g) (hl : LH ad ls nL lv) (hlv : LTl (200 + gN g) lv) (hrs : LTs (200 + gN g) rs) {k8 : Nat} (hrest : ((rs.map (tv ad)).map fun v => v.category).sum ≤ k8) (h8 : k8 ≤ 8) (hroom : cells + b1 ≤ R.cells ∧ slots + s1 ≤ R.slots) (hdg : decode cc pc = .ok (.invokestatic index, 3)) (hst : st0 = (as.map (tv ad)).reverse ++ rs.map (tv ad))
    (kk : ∀ (r : Int32) (ad' : Nat → Nat) (g' : GT) (ι' : S) (H1 : Heap) (locs1 : List Loc), Q1 r g' ι' → CX p s m args c meth cc nL ret own D dA ad' A → PW D dA A s.heap ad' (HS g' ι') H1 locs1 → HA ad0 g0 ad' g' → gN g ≤ gN g' → LH ad' ls nL lv → W p l e R s m args below meth c H1 locs1 (cells + b1) (slots + s1) Q (F0 m (pc + 3) ls (.int r :: rs.map (tv ad')))) : W p l e R s m args below meth c H locs cells slots Q (F0 m pc ls st0) := by
  subst hst
  exact va_calli (va_runS (As := as.map (tv ad)) (rest := rs.map (tv ad)) ⟨X.1, X.2.1, X.2.2.1, X.2.2.2.1, X.2.2.2.2.1⟩ hM cw ⟨cpc_blind, fun U hU hW => ph_start X hP as hU hW⟩ rfl (by rw [List.length_map]; exact hn) hl.1 rfl (lv_room (Nat.le_trans hrest h8)) hdg hroom) hP.2.2.1 (fun q _ hq => ph_free X hP q hq) (ph_free X hP) (fun r u t H1 locs1 ht hvm hq hB hz hk1 hS => by
    obtain ⟨h9, ad9⟩ := u
    obtain ⟨g', ι', rfl, hA', hq⟩ := hq
    have h1 := hA'.2
    have h2 := kk r _ g' ι' H1 locs1 hq (cx_ad X (fun p hp => h1 p (by omega))) (h_after X hP hB ht hS) (hA0.tr hA') hA'.1 (lh_new hl hlv h1)
    rw [tvs_new hrs h1] at h2
    exact h2)
theorem hg_callVv (ci : Nat) (as rs : List TV) (X : CX p s m args c meth cc nL ret own D dA ad A) (hP : PW D dA A s.heap ad (HS g ι) H locs) (hk : gK g pl = ci + 1) (hM : CHv l y bytes maxL rm D dA ad g ι H.size (pX pl :: as) Qv1 b1 s1) (cw : CallW R s args own C index y bytes maxL none (ws_ y bytes maxL none) rm b1 s1 nA) (hn : as.length = nA) (hA0 : HA ad0 g0 ad g) (hl : LH ad ls nL lv) (hlv : LTl (200 + gN g) lv) (hrs : LTs (200 + gN g) rs) {k8 : Nat} (hrest : ((rs.map (tv ad)).map fun v => v.category).sum ≤ k8) (h8 : k8 ≤ 8) (hroom : cells + b1 ≤ R.cells ∧ slots + s1 ≤ R.slots) (hdg : decode cc pc = .ok (.invokevirtual index, 3)) (hst : st0 = (as.map (tv ad)).reverse ++ rv ad pl :: rs.map (tv ad))
    (kk : ∀ (ad' : Nat → Nat) (g' : GT) (ι' : S) (H1 : Heap) (locs1 : List Loc), Qv1 g' ι' → CX p s m args c meth cc nL ret own D dA ad' A → PW D dA A s.heap ad' (HS g' ι') H1 locs1 → HA ad0 g0 ad' g' → gN g ≤ gN g' → LH ad' ls nL lv → W p l e R s m args below meth c H1 locs1 (cells + b1) (slots + s1) Q (F0 m (pc + 3) ls (rs.map (tv ad')))) (hci : ci < 99 := by exact Nat.le_of_ble_eq_true rfl) (hc : CL[ci]? = some (C, T, N) := by rfl) : W p l e R s m args below meth c H locs cells slots Q (F0 m pc ls st0) := by
  subst hst
  have hpl : pl ≠ 0 := pl_nz hP.2.2.2 (pl := pl) (ci := ci + 1) hk (by omega) (by omega)
  rw [rv_nz hpl]
  exact va_callv (va_runV (As := as.map (tv ad)) (rest := rs.map (tv ad)) ⟨X.1, X.2.1, X.2.2.1, X.2.2.2.1, X.2.2.2.2.1⟩ hM cw ⟨cpc_blind, ph_recv X hP hk hci hc, hg_recv X hP hpl⟩ rfl (by rw [List.length_map]; exact hn) hl.1 rfl (lv_room (Nat.le_trans hrest h8)) hdg hroom) hP.2.2.1 (fun q _ hq => ph_free X hP q hq) (ph_free X hP) (fun u t H1 locs1 ht hvm hq hB hz hk1 hS => by
    obtain ⟨h9, ad9⟩ := u
    obtain ⟨g', ι', rfl, hA', hq⟩ := hq
    have h1 := hA'.2
    have h2 := kk _ g' ι' H1 locs1 hq (cx_ad X (fun p hp => h1 p (by omega))) (h_after X hP hB ht hS) (hA0.tr hA') hA'.1 (lh_new hl hlv h1)
    rw [tvs_new hrs h1] at h2
    exact h2)
theorem hg_callSv (as rs : List TV) (X : CX p s m args c meth cc nL ret own D dA ad A) (hP : PW D dA A s.heap ad (HS g ι) H locs) (hM : CHv l y bytes maxL rm D dA ad g ι H.size as Qv1 b1 s1) (cw : CallB R s args own index y bytes maxL none (ws_ y bytes maxL none) rm b1 s1 nA ∧ (Cond.static y).before args s = true) (hn : as.length = nA) (hA0 : HA ad0 g0 ad g) (hl : LH ad ls nL lv) (hlv : LTl (200 + gN g) lv) (hrs : LTs (200 + gN g) rs) {k8 : Nat} (hrest : ((rs.map (tv ad)).map fun v => v.category).sum ≤ k8) (h8 : k8 ≤ 8) (hroom : cells + b1 ≤ R.cells ∧ slots + s1 ≤ R.slots) (hdg : decode cc pc = .ok (.invokestatic index, 3)) (hst : st0 = (as.map (tv ad)).reverse ++ rs.map (tv ad))
    (kk : ∀ (ad' : Nat → Nat) (g' : GT) (ι' : S) (H1 : Heap) (locs1 : List Loc), Qv1 g' ι' → CX p s m args c meth cc nL ret own D dA ad' A → PW D dA A s.heap ad' (HS g' ι') H1 locs1 → HA ad0 g0 ad' g' → gN g ≤ gN g' → LH ad' ls nL lv → W p l e R s m args below meth c H1 locs1 (cells + b1) (slots + s1) Q (F0 m (pc + 3) ls (rs.map (tv ad')))) : W p l e R s m args below meth c H locs cells slots Q (F0 m pc ls st0) := by
  subst hst
  exact va_callv (va_runS (As := as.map (tv ad)) (rest := rs.map (tv ad)) ⟨X.1, X.2.1, X.2.2.1, X.2.2.2.1, X.2.2.2.2.1⟩ hM cw ⟨cpc_blind, fun U hU hW => ph_start X hP as hU hW⟩ rfl (by rw [List.length_map]; exact hn) hl.1 rfl (lv_room (Nat.le_trans hrest h8)) hdg hroom) hP.2.2.1 (fun q _ hq => ph_free X hP q hq) (ph_free X hP) (fun u t H1 locs1 ht hvm hq hB hz hk1 hS => by
    obtain ⟨h9, ad9⟩ := u
    obtain ⟨g', ι', rfl, hA', hq⟩ := hq
    have h1 := hA'.2
    have h2 := kk _ g' ι' H1 locs1 hq (cx_ad X (fun p hp => h1 p (by omega))) (h_after X hP hB ht hS) (hA0.tr hA') hA'.1 (lh_new hl hlv h1)
    rw [tvs_new hrs h1] at h2
    exact h2)
theorem hg_callI (as rs : List TV) (X : CX p s m args c meth cc nL ret own D dA ad A) (hP : PW D dA A s.heap ad (HS g ι) H locs) (hpl : pl ≠ 0) (hM : CHv l y bytes maxL rm D dA ad g ι H.size (pX pl :: as) Qv1 b1 s1) (cw : CallB R s args own index y bytes maxL none (ws_ y bytes maxL none) rm b1 s1 nA ∧ y.name = "<init>" ∧ (Cond.instanceMethod y).before args s = true) (hn : as.length = nA) (hA0 : HA ad0 g0 ad g) (hl : LH ad ls nL lv) (hlv : LTl (200 + gN g) lv) (hrs : LTs (200 + gN g) rs) {k8 : Nat} (hrest : ((rs.map (tv ad)).map fun v => v.category).sum ≤ k8) (h8 : k8 ≤ 8) (hroom : cells + b1 ≤ R.cells ∧ slots + s1 ≤ R.slots) (hdg : decode cc pc = .ok (.invokespecial index, 3)) (hst : st0 = (as.map (tv ad)).reverse ++ rv ad pl :: rs.map (tv ad))
    (kk : ∀ (ad' : Nat → Nat) (g' : GT) (ι' : S) (H1 : Heap) (locs1 : List Loc), Qv1 g' ι' → CX p s m args c meth cc nL ret own D dA ad' A → PW D dA A s.heap ad' (HS g' ι') H1 locs1 → HA ad0 g0 ad' g' → gN g ≤ gN g' → LH ad' ls nL lv → W p l e R s m args below meth c H1 locs1 (cells + b1) (slots + s1) Q (F0 m (pc + 3) ls (rs.map (tv ad')))) : W p l e R s m args below meth c H locs cells slots Q (F0 m pc ls st0) := by
  subst hst
  rw [rv_nz hpl]
  exact va_callv (va_runI (As := as.map (tv ad)) (rest := rs.map (tv ad)) ⟨X.1, X.2.1, X.2.2.1, X.2.2.2.1, X.2.2.2.2.1⟩ hM cw ⟨cpc_blind, hg_recv X hP hpl⟩ rfl (by rw [List.length_map]; exact hn) hl.1 rfl (lv_room (Nat.le_trans hrest h8)) hdg hroom) hP.2.2.1 (fun q _ hq => ph_free X hP q hq) (ph_free X hP) (fun u t H1 locs1 ht hvm hq hB hz hk1 hS => by
    obtain ⟨h9, ad9⟩ := u
    obtain ⟨g', ι', rfl, hA', hq⟩ := hq
    have h1 := hA'.2
    have h2 := kk _ g' ι' H1 locs1 hq (cx_ad X (fun p hp => h1 p (by omega))) (h_after X hP hB ht hS) (hA0.tr hA') hA'.1 (lh_new hl hlv h1)
    rw [tvs_new hrs h1] at h2
    exact h2)
theorem hg_callN {host : String} (as rs : List TV) (X : CX p s m args c meth cc nL ret own D dA ad A) (hP : PW D dA A s.heap ad (HS g ι) H locs) (hpl : pl ≠ 0) (hM : CHv l y bytes maxL rm D dA ad g ι H.size (pX pl :: as) Qv1 b1 s1) (cw : va_CN R s args own index y host bytes maxL none (ws_ y bytes maxL none) rm b1 s1 nA ∧ y.name = "<init>" ∧ (Cond.instanceMethod y).before args s = true) (hn : as.length = nA) (hA0 : HA ad0 g0 ad g) (hl : LH ad ls nL lv) (hlv : LTl (200 + gN g) lv) (hrs : LTs (200 + gN g) rs) {k8 : Nat} (hrest : ((rs.map (tv ad)).map fun v => v.category).sum ≤ k8) (h8 : k8 ≤ 8) (hroom : cells + b1 ≤ R.cells ∧ slots + s1 ≤ R.slots) (hdg : decode cc pc = .ok (.invokespecial index, 3)) (hst : st0 = (as.map (tv ad)).reverse ++ rv ad pl :: rs.map (tv ad))
    (kk : ∀ (ad' : Nat → Nat) (g' : GT) (ι' : S) (H1 : Heap) (locs1 : List Loc), Qv1 g' ι' → CX p s m args c meth cc nL ret own D dA ad' A → PW D dA A s.heap ad' (HS g' ι') H1 locs1 → HA ad0 g0 ad' g' → gN g ≤ gN g' → LH ad' ls nL lv → W p l e R s m args below meth c H1 locs1 (cells + b1) (slots + s1) Q (F0 m (pc + 3) ls (rs.map (tv ad')))) : W p l e R s m args below meth c H locs cells slots Q (F0 m pc ls st0) := by
  subst hst
  rw [rv_nz hpl]
  exact va_callv (va_runIN (As := as.map (tv ad)) (rest := rs.map (tv ad)) ⟨X.1, X.2.1, X.2.2.1, X.2.2.2.1, X.2.2.2.2.1⟩ hM cw ⟨cpc_blind, hg_recv X hP hpl⟩ rfl (by rw [List.length_map]; exact hn) hl.1 rfl (lv_room (Nat.le_trans hrest h8)) hdg hroom) hP.2.2.1 (fun q _ hq => ph_free X hP q hq) (ph_free X hP) (fun u t H1 locs1 ht hvm hq hB hz hk1 hS => by
    obtain ⟨h9, ad9⟩ := u
    obtain ⟨g', ι', rfl, hA', hq⟩ := hq
    have h1 := hA'.2
    have h2 := kk _ g' ι' H1 locs1 hq (cx_ad X (fun p hp => h1 p (by omega))) (h_after X hP hB ht hS) (hA0.tr hA') hA'.1 (lh_new hl hlv h1)
    rw [tvs_new hrs h1] at h2
    exact h2)
theorem hg_callVq (ci : Nat) (as rs : List TV) (X : CX p s m args c meth cc nL ret own D dA ad A) (hP : PW D dA A s.heap ad (HS g ι) H locs) (hk : gK g pl = ci + 1) (hM : CHq l y bytes maxL rt rm D dA ad g ι H.size (pX pl :: as) Qq1 b1 s1) (cw : CallW R s args own C index y bytes maxL (some rt) (ws_ y bytes maxL (some rt)) rm b1 s1 nA) (hn : as.length = nA) (hA0 : HA ad0 g0 ad g) (hl : LH ad ls nL lv) (hlv : LTl (200 + gN g) lv) (hrs : LTs (200 + gN g) rs) {k8 : Nat} (hrest : ((rs.map (tv ad)).map fun v => v.category).sum ≤ k8) (h8 : k8 ≤ 8) (hroom : cells + b1 ≤ R.cells ∧ slots + s1 ≤ R.slots) (hdg : decode cc pc = .ok (.invokevirtual index, 3)) (hst : st0 = (as.map (tv ad)).reverse ++ rv ad pl :: rs.map (tv ad))
    (kk : ∀ (v : Nat) (ad' : Nat → Nat) (g' : GT) (ι' : S) (H1 : Heap) (locs1 : List Loc), Qq1 v g' ι' → v < 200 + gN g' → CX p s m args c meth cc nL ret own D dA ad' A → PW D dA A s.heap ad' (HS g' ι') H1 locs1 → HA ad0 g0 ad' g' → gN g ≤ gN g' → LH ad' ls nL lv → W p l e R s m args below meth c H1 locs1 (cells + b1) (slots + s1) Q (F0 m (pc + 3) ls (rv ad' v :: rs.map (tv ad')))) (hci : ci < 99 := by exact Nat.le_of_ble_eq_true rfl) (hc : CL[ci]? = some (C, T, N) := by rfl) : W p l e R s m args below meth c H locs cells slots Q (F0 m pc ls st0) := by
  subst hst
  have hpl : pl ≠ 0 := pl_nz hP.2.2.2 (pl := pl) (ci := ci + 1) hk (by omega) (by omega)
  rw [rv_nz hpl]
  exact va_callq (va_runV (As := as.map (tv ad)) (rest := rs.map (tv ad)) ⟨X.1, X.2.1, X.2.2.1, X.2.2.2.1, X.2.2.2.2.1⟩ hM cw ⟨cpc_blind, ph_recv X hP hk hci hc, hg_recv X hP hpl⟩ rfl (by rw [List.length_map]; exact hn) hl.1 rfl (lv_room (Nat.le_trans hrest h8)) hdg hroom) hP.2.2.1 (fun q _ hq => ph_free X hP q hq) (ph_free X hP) (fun r u t H1 locs1 ht hvm hq hB hz hk1 hS => by
    obtain ⟨h9, ad9⟩ := u
    obtain ⟨v, rfl, g', ι', rfl, hA', hv, hq⟩ := hq
    have h1 := hA'.2
    have h2 := kk v _ g' ι' H1 locs1 hq hv (cx_ad X (fun p hp => h1 p (by omega))) (h_after X hP hB ht hS) (hA0.tr hA') hA'.1 (lh_new hl hlv h1)
    rw [tvs_new hrs h1] at h2
    exact h2)
theorem hg_callSq (as rs : List TV) (X : CX p s m args c meth cc nL ret own D dA ad A) (hP : PW D dA A s.heap ad (HS g ι) H locs) (hM : CHq l y bytes maxL rt rm D dA ad g ι H.size as Qq1 b1 s1) (cw : CallB R s args own index y bytes maxL (some rt) (ws_ y bytes maxL (some rt)) rm b1 s1 nA ∧ (Cond.static y).before args s = true) (hn : as.length = nA) (hA0 : HA ad0 g0 ad g) (hl : LH ad ls nL lv) (hlv : LTl (200 + gN g) lv) (hrs : LTs (200 + gN g) rs) {k8 : Nat} (hrest : ((rs.map (tv ad)).map fun v => v.category).sum ≤ k8) (h8 : k8 ≤ 8) (hroom : cells + b1 ≤ R.cells ∧ slots + s1 ≤ R.slots) (hdg : decode cc pc = .ok (.invokestatic index, 3)) (hst : st0 = (as.map (tv ad)).reverse ++ rs.map (tv ad))
    (kk : ∀ (v : Nat) (ad' : Nat → Nat) (g' : GT) (ι' : S) (H1 : Heap) (locs1 : List Loc), Qq1 v g' ι' → v < 200 + gN g' → CX p s m args c meth cc nL ret own D dA ad' A → PW D dA A s.heap ad' (HS g' ι') H1 locs1 → HA ad0 g0 ad' g' → gN g ≤ gN g' → LH ad' ls nL lv → W p l e R s m args below meth c H1 locs1 (cells + b1) (slots + s1) Q (F0 m (pc + 3) ls (rv ad' v :: rs.map (tv ad')))) : W p l e R s m args below meth c H locs cells slots Q (F0 m pc ls st0) := by
  subst hst
  exact va_callq (va_runS (As := as.map (tv ad)) (rest := rs.map (tv ad)) ⟨X.1, X.2.1, X.2.2.1, X.2.2.2.1, X.2.2.2.2.1⟩ hM cw ⟨cpc_blind, fun U hU hW => ph_start X hP as hU hW⟩ rfl (by rw [List.length_map]; exact hn) hl.1 rfl (lv_room (Nat.le_trans hrest h8)) hdg hroom) hP.2.2.1 (fun q _ hq => ph_free X hP q hq) (ph_free X hP) (fun r u t H1 locs1 ht hvm hq hB hz hk1 hS => by
    obtain ⟨h9, ad9⟩ := u
    obtain ⟨v, rfl, g', ι', rfl, hA', hv, hq⟩ := hq
    have h1 := hA'.2
    have h2 := kk v _ g' ι' H1 locs1 hq hv (cx_ad X (fun p hp => h1 p (by omega))) (h_after X hP hB ht hS) (hA0.tr hA') hA'.1 (lh_new hl hlv h1)
    rw [tvs_new hrs h1] at h2
    exact h2)
end HGR
