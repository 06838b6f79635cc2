set_option maxRecDepth 100000
/-! the twin: one object (place 200, its ints: row 0) and its arrays (place 200 + j: row j) -/
abbrev S : Type := Nat → Nat → Int32
def tKt : List Nat := [1, 111, 111, 100, 100, 100, 100, 100, 100, 100, 100, 100, 100, 100, 100, 100, 100, 100, 100, 100, 100, 100, 100, 100, 100, 100, 100, 100, 100, 100, 100, 100, 100, 100, 100, 100, 100, 100, 100, 100, 100]
def tLt : List Nat := [0, 3, 7, 16, 14, 28, 14, 14, 14, 14, 14, 1200, 3, 600, 7, 720, 7, 64, 7, 7, 7, 7, 7, 7, 7, 1200, 1200, 1200, 1200, 7, 7, 7, 8, 8, 8, 18, 720, 8, 8, 8, 3]
def tRt : List Nat := [201, 202, 0, 203, 204, 205, 206, 207, 208, 209, 210, 211, 212, 213, 0, 0, 0, 0, 0, 0, 0, 0, 0, 0, 214, 215, 0, 0, 0, 0, 0, 0, 216, 217, 218, 219, 220, 221, 222, 223, 224, 225, 226, 227, 228, 0, 0, 0, 0, 0, 0, 0, 0, 0, 229, 230, 0, 0, 0, 231, 232, 233, 234, 0, 0, 0, 0, 235, 236, 237, 238, 239, 240]
def tR1 : List Nat := [13, 15, 17]
def tR2 : List Nat := [45, 47, 49, 51, 53, 55, 57]
def tK (p : Nat) : Nat := if p < 200 then roK p else tKt.getD (p - 200) 0
def tL (p : Nat) : Nat := if p < 200 then roL p else tLt.getD (p - 200) 0
def tR (p : Nat) : Nat → Nat := fun k => if p < 200 then roR p k else if p = 200 then tRt.getD k 0 else if p = 201 then tR1.getD k 0 else if p = 202 then tR2.getD k 0 else 0
def TH (σ : S) : HT := (41, tK, tL, fun p => if p < 200 then roI p else σ (p - 200), tR)
def up2 (σ : S) (j k : Nat) (v : Int32) : S := va_up σ j (upd (σ j) k v)
theorem th_I (σ : S) (j : Nat) : hI (TH σ) (200 + j) = σ j := by
  show (if 200 + j < 200 then roI (200 + j) else σ (200 + j - 200)) = σ j
  rw [if_neg (by omega), show 200 + j - 200 = j by omega]
theorem th_set (σ : S) (j k : Nat) (v : Int32) : setI (TH σ) (200 + j) k v = TH (up2 σ j k v) := by
  have e : va_up (TH σ).2.2.2.1 (200 + j) (upd ((TH σ).2.2.2.1 (200 + j)) k v) = fun p => if p < 200 then roI p else up2 σ j k v (p - 200) := by
    rw [show (TH σ).2.2.2.1 (200 + j) = σ j from th_I σ j]
    funext p
    show (if p = 200 + j then upd (σ j) k v else if p < 200 then roI p else σ (p - 200)) = if p < 200 then roI p else (if p - 200 = j then upd (σ j) k v else σ (p - 200))
    by_cases h1 : p < 200
    · rw [if_neg (by omega), if_pos h1, if_pos h1]
    · rw [if_neg h1, if_neg h1]
      by_cases h2 : p = 200 + j
      · rw [if_pos h2, if_pos (by omega)]
      · rw [if_neg h2, if_neg (by omega)]
  unfold setI
  rw [e]
  rfl
theorem up2_ne {σ : S} {j k : Nat} {v : Int32} {a : Nat} (h : a ≠ j) : up2 σ j k v a = σ a := if_neg h
theorem up2_row {σ : S} {j k : Nat} {v : Int32} : up2 σ j k v j = upd (σ j) k v := if_pos rfl
theorem up2_eq {σ : S} {j k : Nat} {v : Int32} : up2 σ j k v j k = v := by rw [up2_row]; exact if_pos rfl
theorem up2_nk {σ : S} {j k b : Nat} {v : Int32} (h : b ≠ k) : up2 σ j k v j b = σ j b := by rw [up2_row]; exact if_neg h
theorem tK_200 : tK 200 = 0 + 1 := rfl
def isB (v : Int32) : Prop := v = 0 ∨ v = 1
theorem isB_0 : isB 0 := Or.inl rfl
theorem isB_1 : isB 1 := Or.inr rfl
theorem isB_nar {v : Int32} (h : isB v) : narrow .boolean (.int v) = .int v := by rcases h with rfl | rfl <;> rfl
theorem isB_fit {v : Int32} (h : isB v) : fits .boolean (.int v) = true := by rcases h with rfl | rfl <;> rfl
section TROWS
variable {p : Program} {l : Launch} {e : Env} {R : Room} {s : State} {m : MethodId} {args : Array Value} {below : List Frame} {meth : Method} {c : Code} {H : Heap} {locs : List Loc} {cells slots : Nat} {Q : State → Prop}
variable {cc : ByteArray} {nL pc : Nat} {ret : Option FieldType} {ls : Array Slot} {rest : List Value} {D : va_G} {dA : Nat → ClassId} {ad : Nat → Nat} {A : Nat → Prop} {h : HT} {own : String} {pl : Nat} {lv : List (Nat × TV)}
variable {σ : S}
theorem tw_geti (k : Nat) {index : Nat} (X : CX p s m args c meth cc nL ret own D dA ad A) (hP : PW D dA A s.heap ad (TH σ) H locs) (hlink : Cond.fieldLink own index RX8 (TX8 k).2.1 (TX8 k).2.2.1 ∈ lw_all) (hdg : decode cc pc = .ok (.getfield index, 3))
    (kk : W p l e R s m args below meth c H locs cells slots Q (F0 m (pc + 3) ls (.int (σ 0 k) :: rest))) (hkN : k < 73 := by exact Nat.le_of_ble_eq_true rfl) (hf : (fT 0)[k]? = some false := by rfl) (hr : (TX8 k).1 = RX8 := by rfl) : W p l e R s m args below meth c H locs cells slots Q (F0 m pc ls (rv ad 200 :: rest)) :=
  ph_geti X in_X8 hP (ci := 0) tK_200 (by omega) rfl hkN hf hlink hr hdg kk
theorem tw_getr (k v : Nat) {index : Nat} (X : CX p s m args c meth cc nL ret own D dA ad A) (hP : PW D dA A s.heap ad (TH σ) H locs) (hlink : Cond.fieldLink own index RX8 (TX8 k).2.1 (TX8 k).2.2.1 ∈ lw_all) (hdg : decode cc pc = .ok (.getfield index, 3))
    (kk : W p l e R s m args below meth c H locs cells slots Q (F0 m (pc + 3) ls (rv ad v :: rest))) (hv : tRt.getD k 0 = v := by rfl) (hkN : k < 73 := by exact Nat.le_of_ble_eq_true rfl) (hf : (fT 0)[k]? = some true := by rfl) (hr : (TX8 k).1 = RX8 := by rfl) : W p l e R s m args below meth c H locs cells slots Q (F0 m pc ls (rv ad 200 :: rest)) := by
  subst hv
  exact ph_getr X in_X8 hP (ci := 0) tK_200 (by omega) rfl hkN hf hlink hr hdg kk
theorem tw_puti (k : Nat) {index : Nat} {v : Int32} {P : S → Prop} (X : CX p s m args c meth cc nL ret own D dA ad A) (hP : PW D dA A s.heap ad (TH σ) H locs) (hlink : Cond.fieldLink own index RX8 (TX8 k).2.1 (TX8 k).2.2.1 ∈ lw_all) (hdg : decode cc pc = .ok (.putfield index, 3))  (hF : ∀ σ', σ' = up2 σ 0 k v → P σ')

    (kk : ∀ (H1 : Heap) (locs1 : List Loc) (σ' : S), PW D dA A s.heap ad (TH σ') H1 locs1 → P σ' → W p l e R s m args below meth c H1 locs1 cells slots Q (F0 m (pc + 3) ls rest)) (hkN : k < 73 := by exact Nat.le_of_ble_eq_true rfl) (hf : (fT 0)[k]? = some false := by rfl) (hr : (TX8 k).1 = RX8 := by rfl) (hfin : (TX8 k).2.2.2 = false := by rfl) (hty0 : tyX8 k = .int := by rfl) : W p l e R s m args below meth c H locs cells slots Q (F0 m pc ls (.int v :: rv ad 200 :: rest)) :=
  ph_puti X in_X8 tyX8 tyX8_ok nmX8 hP (ci := 0) tK_200 (by omega) rfl hkN hf hlink hr hfin (by rw [hty0]; rfl) (by rw [hty0]; rfl) hdg (fun H1 locs1 q => kk H1 locs1 _ (by rw [← th_set σ 0 k v]; exact q) (hF _ rfl))
theorem tw_putz (k : Nat) {index : Nat} {v : Int32} {P : S → Prop} (X : CX p s m args c meth cc nL ret own D dA ad A) (hP : PW D dA A s.heap ad (TH σ) H locs) (hlink : Cond.fieldLink own index RX8 (TX8 k).2.1 (TX8 k).2.2.1 ∈ lw_all) (hdg : decode cc pc = .ok (.putfield index, 3)) (hv : isB v) (hF : ∀ σ', σ' = up2 σ 0 k v → P σ')

    (kk : ∀ (H1 : Heap) (locs1 : List Loc) (σ' : S), PW D dA A s.heap ad (TH σ') H1 locs1 → P σ' → W p l e R s m args below meth c H1 locs1 cells slots Q (F0 m (pc + 3) ls rest)) (hkN : k < 73 := by exact Nat.le_of_ble_eq_true rfl) (hf : (fT 0)[k]? = some false := by rfl) (hr : (TX8 k).1 = RX8 := by rfl) (hfin : (TX8 k).2.2.2 = false := by rfl) (hty0 : tyX8 k = .boolean := by rfl) : W p l e R s m args below meth c H locs cells slots Q (F0 m pc ls (.int v :: rv ad 200 :: rest)) :=
  ph_puti X in_X8 tyX8 tyX8_ok nmX8 hP (ci := 0) tK_200 (by omega) rfl hkN hf hlink hr hfin (by rw [hty0]; exact isB_nar hv) (by rw [hty0]; exact isB_fit hv) hdg (fun H1 locs1 q => kk H1 locs1 _ (by rw [← th_set σ 0 k v]; exact q) (hF _ rfl))
theorem tw_ald (j : Nat) {v n k : Nat} {i : Int32} (X : CX p s m args c meth cc nL ret own D dA ad A) (hP : PW D dA A s.heap ad (TH σ) H locs) (hin : vp_in i n) (hi : i.toNatClampNeg = k) (hdg : decode cc pc = .ok (.iaload, 1))
    (kk : W p l e R s m args below meth c H locs cells slots Q (F0 m (pc + 1) ls (.int (σ j k) :: rest))) (hj : 200 + j = v := by rfl) (hk : tK v = 100 := by rfl) (hn : tL v = n := by rfl) : W p l e R s m args below meth c H locs cells slots Q (F0 m pc ls (.int i :: rv ad v :: rest)) := by
  subst hj
  subst hn
  refine ph_iald X hP hk hin hi hdg ?_
  rw [th_I]
  exact kk
theorem tw_ast (j : Nat) {v n k : Nat} {i x : Int32} {P : S → Prop} (X : CX p s m args c meth cc nL ret own D dA ad A) (hP : PW D dA A s.heap ad (TH σ) H locs) (hin : vp_in i n) (hi : i.toNatClampNeg = k) (hdg : decode cc pc = .ok (.iastore, 1)) (hF : ∀ σ', σ' = up2 σ j k x → P σ')
    (kk : ∀ (H1 : Heap) (locs1 : List Loc) (σ' : S), PW D dA A s.heap ad (TH σ') H1 locs1 → P σ' → W p l e R s m args below meth c H1 locs1 cells slots Q (F0 m (pc + 1) ls rest)) (hj : 200 + j = v := by rfl) (hk : tK v = 100 := by rfl) (hn : tL v = n := by rfl) : W p l e R s m args below meth c H locs cells slots Q (F0 m pc ls (.int x :: .int i :: rv ad v :: rest)) := by
  subst hj
  subst hn
  exact ph_iast X hP hk hin hi hdg (fun H1 locs1 q => kk H1 locs1 _ (by rw [← th_set σ j k x]; exact q) (hF _ rfl))
theorem tw_alen {v n : Nat} {x : Int32} (X : CX p s m args c meth cc nL ret own D dA ad A) (hP : PW D dA A s.heap ad (TH σ) H locs) (hdg : decode cc pc = .ok (.arraylength, 1)) (hk : tK v = 100) (hn : tL v = n) (hx : Int32.ofNat n = x)
    (kk : W p l e R s m args below meth c H locs cells slots Q (F0 m (pc + 1) ls (.int x :: rest))) : W p l e R s m args below meth c H locs cells slots Q (F0 m pc ls (rv ad v :: rest)) := by
  subst hn
  exact ph_alenI X hP hk hx hdg kk
theorem tw_alenS {v n : Nat} {x : Int32} (X : CX p s m args c meth cc nL ret own D dA ad A) (hP : PW D dA A s.heap ad (TH σ) H locs) (hdg : decode cc pc = .ok (.arraylength, 1)) (hk : tK v = 111) (hn : tL v = n) (hx : Int32.ofNat n = x)
    (kk : W p l e R s m args below meth c H locs cells slots Q (F0 m (pc + 1) ls (.int x :: rest))) : W p l e R s m args below meth c H locs cells slots Q (F0 m pc ls (rv ad v :: rest)) := by
  subst hn
  exact ph_alenS X hP hk hx hdg kk
theorem tw_aldS {v n k : Nat} {i : Int32} (X : CX p s m args c meth cc nL ret own D dA ad A) (hP : PW D dA A s.heap ad (TH σ) H locs) (hin : vp_in i n) (hi : i.toNatClampNeg = k) (hdg : decode cc pc = .ok (.aaload, 1)) (hk : tK v = 111) (hn : tL v = n)
    (kk : W p l e R s m args below meth c H locs cells slots Q (F0 m (pc + 1) ls (rv ad (tR v k) :: rest))) : W p l e R s m args below meth c H locs cells slots Q (F0 m pc ls (.int i :: rv ad v :: rest)) := by
  subst hn
  exact ph_aaldS X hP hk hin hi hdg kk
variable {Qi : Int32 → S → Prop} {Qv : S → Prop} {Q1 : Int32 → S → Prop} {Qv1 : S → Prop}
variable {y : MethodName} {bytes : ByteArray} {maxL nA index : Nat} {rt : FieldType} {rm : Room} {st0 : List Value}
/-- contracts of the twin's methods -/
abbrev TQi (Q : Int32 → S → Prop) : Int32 → HT → Prop := fun r u => ∃ σ', u = TH σ' ∧ Q r σ'
abbrev TQv (Q : S → Prop) : HT → Prop := fun u => ∃ σ', u = TH σ' ∧ Q σ'
abbrev CTi (l : Launch) (y : MethodName) (cc : ByteArray) (nL : Nat) (ret : FieldType) (rm : Room) (D : va_G) (dA : Nat → ClassId) (ad : Nat → Nat) (σ : S) (sz : Nat) (as : List TV) (Q : Int32 → S → Prop) : Prop := CMi l y cc nL ret rm D dA ad (TH σ) sz as (TQi Q)
abbrev CTv (l : Launch) (y : MethodName) (cc : ByteArray) (nL : Nat) (rm : Room) (D : va_G) (dA : Nat → ClassId) (ad : Nat → Nat) (σ : S) (sz : Nat) (as : List TV) (Q : S → Prop) : Prop := CMv l y cc nL rm D dA ad (TH σ) sz as (TQv Q)
/-- the walk of a body that answers an int -/
abbrev WTi (p : Program) (l : Launch) (e : Env) (R : Room) (s : State) (m : MethodId) (args : Array Value) (below : List Frame) (meth : Method) (c : Code) (D : va_G) (dA : Nat → ClassId) (ad : Nat → Nat) (A : Nat → Prop) (Q : Int32 → S → Prop) (H : Heap) (locs : List Loc) (g : JFrame) : Prop :=
  W p l e R s m args below meth c H locs 0 0 (MQ below (va_Qi (TQi Q) (CB D dA ad A) A) args s 0 0 A) g
abbrev WTv (p : Program) (l : Launch) (e : Env) (R : Room) (s : State) (m : MethodId) (args : Array Value) (below : List Frame) (meth : Method) (c : Code) (D : va_G) (dA : Nat → ClassId) (ad : Nat → Nat) (A : Nat → Prop) (Q : S → Prop) (H : Heap) (locs : List Loc) (g : JFrame) : Prop :=
  W p l e R s m args below meth c H locs 0 0 (MQ below (va_Qv (TQv Q) (CB D dA ad A) A) args s 0 0 A) g
theorem tw_iret {v : Int32} (X : CX p s m args c meth cc nL (some .int) own D dA ad A) (hP : PW D dA A s.heap ad (TH σ) H locs) (hQ : Qi v σ) (hdg : decode cc pc = .ok (.ireturn, 1)) : WTi p l e R s m args below meth c D dA ad A Qi H locs (F0 m pc ls [.int v]) := ph_iret (Qi := TQi Qi) X hP ⟨σ, rfl, hQ⟩ hdg
theorem tw_zret {v : Int32} (X : CX p s m args c meth cc nL (some .boolean) own D dA ad A) (hP : PW D dA A s.heap ad (TH σ) H locs) (hn : isB v) (hQ : Qi v σ) (hdg : decode cc pc = .ok (.ireturn, 1)) : WTi p l e R s m args below meth c D dA ad A Qi H locs (F0 m pc ls [.int v]) := ph_zret (Qi := TQi Qi) X hP (isB_nar hn) ⟨σ, rfl, hQ⟩ hdg
theorem tw_vret (X : CX p s m args c meth cc nL none own D dA ad A) (hP : PW D dA A s.heap ad (TH σ) H locs) (hQ : Qv σ) (hdg : decode cc pc = .ok (.return_, 1)) : WTv p l e R s m args below meth c D dA ad A Qv H locs (F0 m pc ls []) := ph_vret (Qv := TQv Qv) X hP ⟨σ, rfl, hQ⟩ hdg
theorem tw_callVi (as : List TV) (X : CX p s m args c meth cc nL ret own D dA ad A) (hP : PW D dA A s.heap ad (TH σ) H locs) (hM : CTi l y bytes maxL rt rm D dA ad σ H.size (pX 200 :: as) Q1) (cw : CallW R s args own RX8 index y bytes maxL (some rt) (ws_ y bytes maxL (some rt)) rm 0 0 nA) (hn : as.length = nA) (hl : LH ad ls nL lv) {k8 : Nat} (hrest : (rest.map fun v => v.category).sum ≤ k8) (h8 : k8 ≤ 8) (hroom : cells ≤ R.cells ∧ slots ≤ R.slots) (hdg : decode cc pc = .ok (.invokevirtual index, 3)) (hst : st0 = (as.map (tv ad)).reverse ++ rv ad 200 :: rest)
    (kk : ∀ (r : Int32) (σ' : S) (H1 : Heap) (locs1 : List Loc), Q1 r σ' → PW D dA A s.heap ad (TH σ') H1 locs1 → W p l e R s m args below meth c H1 locs1 cells slots Q (F0 m (pc + 3) ls (.int r :: rest))) : W p l e R s m args below meth c H locs cells slots Q (F0 m pc ls st0) :=
  ph_callVi as X hP hM cw (ci := 0) tK_200 (by omega) rfl hn hl hrest h8 hroom hdg hst (fun r u H1 locs1 hq q => by obtain ⟨σ', rfl, hq⟩ := hq; exact kk r σ' H1 locs1 hq q)
theorem tw_callVv (as : List TV) (X : CX p s m args c meth cc nL ret own D dA ad A) (hP : PW D dA A s.heap ad (TH σ) H locs) (hM : CTv l y bytes maxL rm D dA ad σ H.size (pX 200 :: as) Qv1) (cw : CallW R s args own RX8 index y bytes maxL none (ws_ y bytes maxL none) rm 0 0 nA) (hn : as.length = nA) (hl : LH ad ls nL lv) {k8 : Nat} (hrest : (rest.map fun v => v.category).sum ≤ k8) (h8 : k8 ≤ 8) (hroom : cells ≤ R.cells ∧ slots ≤ R.slots) (hdg : decode cc pc = .ok (.invokevirtual index, 3)) (hst : st0 = (as.map (tv ad)).reverse ++ rv ad 200 :: rest)
    (kk : ∀ (σ' : S) (H1 : Heap) (locs1 : List Loc), Qv1 σ' → PW D dA A s.heap ad (TH σ') H1 locs1 → W p l e R s m args below meth c H1 locs1 cells slots Q (F0 m (pc + 3) ls rest)) : W p l e R s m args below meth c H locs cells slots Q (F0 m pc ls st0) :=
  ph_callVv as X hP hM cw (ci := 0) tK_200 (by omega) rfl hn hl hrest h8 hroom hdg hst (fun u H1 locs1 hq q => by obtain ⟨σ', rfl, hq⟩ := hq; exact kk σ' H1 locs1 hq q)
theorem tw_callSi (as : List TV) (X : CX p s m args c meth cc nL ret own D dA ad A) (hP : PW D dA A s.heap ad (TH σ) H locs) (hM : CTi l y bytes maxL rt rm D dA ad σ H.size as Q1) (cw : CallB R s args own index y bytes maxL (some rt) (ws_ y bytes maxL (some rt)) rm 0 0 nA ∧ (Cond.static y).before args s = true) (hn : as.length = nA) (hl : LH ad ls nL lv) {k8 : Nat} (hrest : (rest.map fun v => v.category).sum ≤ k8) (h8 : k8 ≤ 8) (hroom : cells ≤ R.cells ∧ slots ≤ R.slots) (hdg : decode cc pc = .ok (.invokestatic index, 3)) (hst : st0 = (as.map (tv ad)).reverse ++ rest)
    (kk : ∀ (r : Int32) (σ' : S) (H1 : Heap) (locs1 : List Loc), Q1 r σ' → PW D dA A s.heap ad (TH σ') H1 locs1 → W p l e R s m args below meth c H1 locs1 cells slots Q (F0 m (pc + 3) ls (.int r :: rest))) : W p l e R s m args below meth c H locs cells slots Q (F0 m pc ls st0) :=
  ph_callSi as X hP hM cw hn hl hrest h8 hroom hdg hst (fun r u H1 locs1 hq q => by obtain ⟨σ', rfl, hq⟩ := hq; exact kk r σ' H1 locs1 hq q)
theorem tw_callSv (as : List TV) (X : CX p s m args c meth cc nL ret own D dA ad A) (hP : PW D dA A s.heap ad (TH σ) H locs) (hM : CTv l y bytes maxL rm D dA ad σ H.size as Qv1) (cw : CallB R s args own index y bytes maxL none (ws_ y bytes maxL none) rm 0 0 nA ∧ (Cond.static y).before args s = true) (hn : as.length = nA) (hl : LH ad ls nL lv) {k8 : Nat} (hrest : (rest.map fun v => v.category).sum ≤ k8) (h8 : k8 ≤ 8) (hroom : cells ≤ R.cells ∧ slots ≤ R.slots) (hdg : decode cc pc = .ok (.invokestatic index, 3)) (hst : st0 = (as.map (tv ad)).reverse ++ rest)
    (kk : ∀ (σ' : S) (H1 : Heap) (locs1 : List Loc), Qv1 σ' → PW D dA A s.heap ad (TH σ') H1 locs1 → W p l e R s m args below meth c H1 locs1 cells slots Q (F0 m (pc + 3) ls rest)) : W p l e R s m args below meth c H locs cells slots Q (F0 m pc ls st0) :=
  ph_callSv as X hP hM cw hn hl hrest h8 hroom hdg hst (fun u H1 locs1 hq q => by obtain ⟨σ', rfl, hq⟩ := hq; exact kk σ' H1 locs1 hq q)
end TROWS
