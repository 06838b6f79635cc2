set_option maxRecDepth 100000
/-! PH: the world by places. A heap h: how many places, the kind of each, lengths, ints, references (0: null; 1..199: constants; from 200 on: made) -/
abbrev HT : Type := Nat × (Nat → Nat) × (Nat → Nat) × (Nat → Nat → Int32) × (Nat → Nat → Nat)
def hN (h : HT) : Nat := h.1
def hK (h : HT) : Nat → Nat := h.2.1
def hL (h : HT) : Nat → Nat := h.2.2.1
def hI (h : HT) : Nat → Nat → Int32 := h.2.2.2.1
def hR (h : HT) : Nat → Nat → Nat := h.2.2.2.2
def setI (h : HT) (p k : Nat) (v : Int32) : HT := (h.1, h.2.1, h.2.2.1, va_up h.2.2.2.1 p (upd (h.2.2.2.1 p) k v), h.2.2.2.2)
def setA (h : HT) (p : Nat) (f : Nat → Int32) : HT := (h.1, h.2.1, h.2.2.1, va_up h.2.2.2.1 p f, h.2.2.2.2)
def setR (h : HT) (p k v : Nat) : HT := (h.1, h.2.1, h.2.2.1, h.2.2.2.1, va_up h.2.2.2.2 p (va_up (h.2.2.2.2 p) k v))
def setRA (h : HT) (p : Nat) (f : Nat → Nat) : HT := (h.1, h.2.1, h.2.2.1, h.2.2.2.1, va_up h.2.2.2.2 p f)
def newp (h : HT) (c n : Nat) : HT := (h.1 + 1, va_up h.2.1 (200 + h.1) c, va_up h.2.2.1 (200 + h.1) n, va_up h.2.2.2.1 (200 + h.1) (fun _ => 0), va_up h.2.2.2.2 (200 + h.1) (fun _ => 0))
def ro (ad : Nat → Nat) (v : Nat) : Option Nat := if v = 0 then none else some (ad v)
def rv (ad : Nat → Nat) (v : Nat) : Value := va_rf (ro ad v)
theorem rv_nz {ad : Nat → Nat} {v : Nat} (h : v ≠ 0) : rv ad v = .ref (ad v) := by
  unfold rv ro
  rw [if_neg h]
  rfl
theorem rv_0 {ad : Nat → Nat} : rv ad 0 = .null := rfl
theorem rv_cat {ad : Nat → Nat} {v : Nat} : (rv ad v).category = 1 := by
  by_cases h : v = 0
  · subst h; rfl
  · rw [rv_nz h]; rfl
theorem rv_eq {ad ad' : Nat → Nat} {v : Nat} (h : ad' v = ad v) : rv ad' v = rv ad v := by
  unfold rv ro
  rw [h]
def fv (ad : Nat → Nat) (i : Nat → Int32) (r : Nat → Nat) (b : Bool) (k : Nat) : Value := match b with
  | true => rv ad (r k)
  | false => Value.int (i k)
def mkF (ad : Nat → Nat) (i : Nat → Int32) (r : Nat → Nat) : List Bool → Nat → List Value
  | [], _ => []
  | b :: l, k => fv ad i r b k :: mkF ad i r l (k + 1)
theorem mkF_cons {ad : Nat → Nat} {i : Nat → Int32} {r : Nat → Nat} {b : Bool} {l : List Bool} {k : Nat} : mkF ad i r (b :: l) k = fv ad i r b k :: mkF ad i r l (k + 1) := rfl
/-- the classes of the world, by number -/
def CL : List vw_C := [(RX8, TX8, 73), (RX1, TX1, 21), (RX2, TX2, 10), (RX3, TX3, 1), (RX5, TX5, 8), (RX6, TX6, 8), (RX7, TX7, 15), (RX9, TX9, 9), (RX10, TX10, 8), (RX12, TX12, 1), (RX13, TX13, 1), (RX14, TX14, 3), (RX15, TX15, 1), (RX16, TX16, 6), (RX17, TX17, 6), (RX18, TX18, 6), (RX19, TX19, 6), (RJ2, TJ2, 3), (RJ8, TJ8, 4), (RJ9, TJ9, 4)]
/-- which fields are references -/
def fT : Nat → List Bool := fun c => match c with
  | 0 => [true, true, false, true, true, true, true, true, true, true, true, true, true, true, false, false, false, false, false, false, false, false, false, false, true, true, false, false, false, false, false, false, true, true, true, true, true, true, true, true, true, true, true, true, true, false, false, false, false, false, false, false, false, false, true, true, false, false, false, true, true, true, true, false, false, false, false, true, true, true, true, true, true]
  | 1 => [true, true, true, true, true, true, true, true, true, true, true, true, false, true, false, false, true, true, false, true, false]
  | 2 => [false, false, false, false, false, false, true, true, true, true]
  | 3 => [true]
  | 4 => [true, true, true, true, true, true, false, false]
  | 5 => [true, true, false, false, false, false, false, false]
  | 6 => [true, true, true, true, true, true, true, true, true, true, true, false, false, false, false]
  | 7 => [true, false, false, false, false, false, true, true, true]
  | 8 => [true, true, true, true, true, false, false, false]
  | 9 => [false]
  | 10 => [true]
  | 11 => [false, true, true]
  | 12 => [true]
  | 13 => [false, false, false, false, false, false]
  | 14 => [false, false, false, false, false, false]
  | 15 => [false, false, false, false, false, false]
  | 16 => [false, false, false, false, false, false]
  | 17 => [false, true, false]
  | 18 => [true, false, false, false]
  | 19 => [true, false, false, false]
  | _ => []
def entv (dA : Nat → ClassId) (ad : Nat → Nat) (h : HT) (p : Nat) : va_E :=
  if hK h p < 100 then .inr (hK h p - 1, mkF ad (hI h p) (hR h p) (fT (hK h p - 1)) 0)
  else if hK h p < 109 then .inl (dA (hK h p), hL h p, .inl (hI h p))
  else if hK h p < 110 then .inl (dA (hK h p), hL h p, .inr (.inl (fun k => (hI h p k).toInt64)))
  else .inl (dA (hK h p), hL h p, .inr (.inr (.inr (.inr (fun k => ro ad (hR h p k))))))
def PL (dA : Nat → ClassId) (ad : Nat → Nat) (h : HT) : va_W := (List.range (hN h)).map (fun i => (ad (200 + i), entv dA ad h (200 + i)))
/-- the array classes of the world: kinds 100 int, 101 byte, 102 boolean, 110 Object, 111 String, 112 Value -/
def TYS (dA : Nat → ClassId) : List (ClassId × FieldType) := [(dA 100, .int), (dA 101, .byte), (dA 102, .boolean), (dA 110, .object "java/lang/Object"), (dA 111, .object "java/lang/String"), (dA 112, .object "SpoonRow$Value"), (dA 109, .long)]
/-! the constants: strings at 1 + 2 i (their bytes at 2 + 2 i), the Sort constants at 100 + i, the Value constants at 105 + i, Value's array at 120 -/
def strT : List (List Nat) := [[98, 101, 100], [110, 105, 103, 104, 116], [97, 119, 97, 107, 101], [119, 97, 107, 101, 115], [98, 111, 108, 115, 116, 101, 114], [110, 101, 118, 101, 114], [115, 108, 101, 101, 112, 101, 114], [99, 104, 105, 108, 100], [115, 110, 111, 114, 101, 114], [100, 111, 103], [59], [40], [111, 114], [97, 110, 100], [110, 111, 116], [60], [61], [43], [45], [42], [47], [41], [108, 105, 103, 104, 116], [111, 102, 102], [116, 117, 114, 110, 115], [104, 111, 117, 114], [115, 110, 111, 114, 101], [101, 100, 103, 101], [119, 111, 107, 101, 110], []]
def strByt : List (List Int32) := strT.map (fun l => l.map Int32.ofNat)
def strLen : List Nat := strT.map List.length
def roK (p : Nat) : Nat := if 1 ≤ p ∧ p ≤ 60 then (if p % 2 = 1 then 1000 else 1001) else if 100 ≤ p ∧ p < 105 then 1002 else if 105 ≤ p ∧ p < 112 then 1003 else if p = 120 then 1004 else if p = 130 then 1005 else 0
def roL (p : Nat) : Nat := if 1 ≤ p ∧ p ≤ 60 then strLen.getD ((p - 1) / 2) 0 else if p = 120 then 7 else 0
def roI (p : Nat) : Nat → Int32 := fun k => if 1 ≤ p ∧ p ≤ 60 then (if p % 2 = 1 then 0 else (strByt.getD ((p - 1) / 2) []).getD k 0) else if 105 ≤ p ∧ p < 112 then nI (p - 105) else 0
def roR (p : Nat) : Nat → Nat := fun k => if 1 ≤ p ∧ p ≤ 60 then (if p % 2 = 1 then (if k = 0 then p + 1 else 0) else 0) else if p = 120 then (if k < 7 then 105 + k else 0) else 0
theorem roK_spec (p : Nat) : roK p = 0 ∨ 1000 ≤ roK p := by
  unfold roK
  repeat' split
  all_goals omega
theorem roR_lt (p k : Nat) (hp : p < 200) : roR p k < 200 := by
  unfold roR
  repeat' split
  all_goals omega
/-- a heap is well made -/
def WFH (h : HT) : Prop := (∀ p, p < 200 → hK h p = roK p ∧ hL h p = roL p ∧ hI h p = roI p ∧ hR h p = roR p) ∧ (∀ p, 200 + hN h ≤ p → hK h p = 0) ∧ (∀ p k, hR h p k < 200 + hN h) ∧ (∀ p, 200 ≤ p → p < 200 + hN h → hK h p ≠ 0)
theorem wfh_live {h : HT} (w : WFH h) {p c : Nat} (hk : hK h p = c) (h0 : 0 < c) (h1 : c < 1000) : 200 ≤ p ∧ p < 200 + hN h := by
  refine ⟨Nat.le_of_not_lt fun q => ?_, Nat.lt_of_not_le fun q => ?_⟩
  · have e := (w.1 p q).1
    have := roK_spec p
    omega
  · have e := w.2.1 p q
    omega
theorem PL_get {dA : Nat → ClassId} {ad : Nat → Nat} {h : HT} {p : Nat} (h0 : 200 ≤ p) (h1 : p < 200 + hN h) : (PL dA ad h)[p - 200]? = some (ad p, entv dA ad h p) := by
  unfold PL
  rw [List.getElem?_map, List.getElem?_range (by omega)]
  have : 200 + (p - 200) = p := by omega
  simp [this]
theorem PL_lookup {dA : Nat → ClassId} {ad : Nat → Nat} {h : HT} {k : Nat} {q : Nat × va_E} (hk : (PL dA ad h)[k]? = some q) : k < hN h ∧ q = (ad (200 + k), entv dA ad h (200 + k)) := by
  unfold PL at hk
  rw [List.getElem?_map] at hk
  by_cases hl : k < hN h
  · rw [List.getElem?_range hl] at hk
    exact ⟨hl, (Option.some.inj hk).symm⟩
  · rw [List.getElem?_eq_none (by simp; omega)] at hk
    cases hk
theorem PL_set {dA : Nat → ClassId} {ad : Nat → Nat} {h h' : HT} {p : Nat} {e : va_E} (h0 : 200 ≤ p) (h1 : p < 200 + hN h) (hn : hN h' = hN h) (ho : ∀ q, q ≠ p → entv dA ad h' q = entv dA ad h q) (he : entv dA ad h' p = e) : (PL dA ad h).set (p - 200) (ad p, e) = PL dA ad h' := by
  apply List.ext_getElem?
  intro k
  by_cases hk : k < hN h
  · have e1 : (PL dA ad h')[k]? = some (ad (200 + k), entv dA ad h' (200 + k)) := by
      have := PL_get (dA := dA) (ad := ad) (h := h') (p := 200 + k) (by omega) (by omega)
      rwa [show 200 + k - 200 = k by omega] at this
    rw [e1]
    by_cases hkp : k = p - 200
    · subst hkp
      rw [List.getElem?_set_self (by unfold PL; simp; omega)]
      rw [show 200 + (p - 200) = p by omega, he]
    · rw [List.getElem?_set_ne (Ne.symm hkp)]
      have := PL_get (dA := dA) (ad := ad) (h := h) (p := 200 + k) (by omega) (by omega)
      rw [show 200 + k - 200 = k by omega] at this
      rw [this, ho (200 + k) (by omega)]
  · rw [List.getElem?_eq_none (by rw [List.length_set]; unfold PL; simp; omega), List.getElem?_eq_none (by unfold PL; simp; omega)]
theorem entv_o {dA : Nat → ClassId} {ad : Nat → Nat} {h : HT} {p c : Nat} (hk : hK h p = c + 1) (hc : c < 99) : entv dA ad h p = .inr (c, mkF ad (hI h p) (hR h p) (fT c) 0) := by
  unfold entv
  rw [hk, if_pos (by omega)]
  simp
theorem entv_a {dA : Nat → ClassId} {ad : Nat → Nat} {h : HT} {p c : Nat} (hk : hK h p = c) (h0 : 100 ≤ c) (h1 : c < 109) : entv dA ad h p = .inl (dA c, hL h p, .inl (hI h p)) := by
  unfold entv
  rw [hk, if_neg (by omega), if_pos h1]
theorem entv_q {dA : Nat → ClassId} {ad : Nat → Nat} {h : HT} {p c : Nat} (hk : hK h p = c) (h0 : 110 ≤ c) : entv dA ad h p = .inl (dA c, hL h p, .inr (.inr (.inr (.inr (fun k => ro ad (hR h p k)))))) := by
  unfold entv
  rw [hk, if_neg (by omega), if_neg (by omega), if_neg (by omega)]
theorem entv_l {dA : Nat → ClassId} {ad : Nat → Nat} {h : HT} {p : Nat} (hk : hK h p = 109) : entv dA ad h p = .inl (dA 109, hL h p, .inr (.inl (fun k => (hI h p k).toInt64))) := by
  unfold entv
  rw [hk, if_neg (by omega), if_neg (by omega), if_pos (by omega)]
theorem entv_ext {dA : Nat → ClassId} {ad : Nat → Nat} {h h' : HT} {p : Nat} (a : hK h' p = hK h p) (b : hL h' p = hL h p) (c : hI h' p = hI h p) (d : hR h' p = hR h p) : entv dA ad h' p = entv dA ad h p := by
  unfold entv
  rw [a, b, c, d]
theorem mkF_get {ad : Nat → Nat} {i : Nat → Int32} {r : Nat → Nat} : ∀ (l : List Bool) (j k : Nat) (b : Bool), l[k]? = some b → (mkF ad i r l j)[k]? = some (fv ad i r b (j + k))
  | [], _, k, _, h => by simp at h
  | c :: l, j, 0, b, h => by
    rw [List.getElem?_cons_zero] at h
    cases h
    rw [mkF_cons, List.getElem?_cons_zero]
    rfl
  | c :: l, j, k + 1, b, h => by
    rw [List.getElem?_cons_succ] at h
    rw [mkF_cons, List.getElem?_cons_succ, mkF_get l (j + 1) k b h]
    rw [show j + 1 + k = j + (k + 1) by omega]
theorem mkF_len {ad : Nat → Nat} {i : Nat → Int32} {r : Nat → Nat} : ∀ (l : List Bool) (j : Nat), (mkF ad i r l j).length = l.length
  | [], _ => rfl
  | c :: l, j => by rw [mkF_cons, List.length_cons, List.length_cons, mkF_len l (j + 1)]
theorem mkF_ext {ad ad' : Nat → Nat} {i i' : Nat → Int32} {r r' : Nat → Nat} : ∀ (l : List Bool) (j : Nat), (∀ k, j ≤ k → i' k = i k) → (∀ k, j ≤ k → rv ad' (r' k) = rv ad (r k)) → mkF ad' i' r' l j = mkF ad i r l j
  | [], _, _, _ => rfl
  | c :: l, j, h1, h2 => by
    have e : fv ad' i' r' c j = fv ad i r c j := by
      cases c
      · exact congrArg Value.int (h1 j (Nat.le_refl _))
      · exact h2 j (Nat.le_refl _)
    rw [mkF_cons, mkF_cons, e, mkF_ext l (j + 1) (fun k hk => h1 k (by omega)) (fun k hk => h2 k (by omega))]
theorem mkF_setI {ad : Nat → Nat} {i : Nat → Int32} {r : Nat → Nat} {v : Int32} : ∀ (l : List Bool) (j k : Nat), l[k]? = some false → (mkF ad i r l j).set k (.int v) = mkF ad (upd i (j + k) v) r l j
  | [], _, k, h => by simp at h
  | c :: l, j, 0, h => by
    rw [List.getElem?_cons_zero] at h
    cases h
    rw [mkF_cons, mkF_cons, List.set_cons_zero]
    simp only [Nat.add_zero]
    rw [mkF_ext l (j + 1) (i := i) (i' := upd i j v) (r := r) (r' := r) (ad := ad) (ad' := ad) (fun k hk => if_neg (by omega)) (fun _ _ => rfl)]
    congr 1
    exact congrArg Value.int (if_pos rfl).symm
  | c :: l, j, k + 1, h => by
    rw [List.getElem?_cons_succ] at h
    rw [mkF_cons, mkF_cons, List.set_cons_succ, mkF_setI l (j + 1) k h]
    rw [show j + 1 + k = j + (k + 1) by omega]
    have : upd i (j + (k + 1)) v j = i j := if_neg (by omega)
    have e : fv ad (upd i (j + (k + 1)) v) r c j = fv ad i r c j := by
      cases c
      · exact congrArg Value.int this
      · rfl
    rw [e]
theorem mkF_setR {ad : Nat → Nat} {i : Nat → Int32} {r : Nat → Nat} {v : Nat} : ∀ (l : List Bool) (j k : Nat), l[k]? = some true → (mkF ad i r l j).set k (rv ad v) = mkF ad i (va_up r (j + k) v) l j
  | [], _, k, h => by simp at h
  | c :: l, j, 0, h => by
    rw [List.getElem?_cons_zero] at h
    cases h
    rw [mkF_cons, mkF_cons, List.set_cons_zero]
    simp only [Nat.add_zero]
    rw [mkF_ext l (j + 1) (r := r) (r' := va_up r j v) (i := i) (i' := i) (ad := ad) (ad' := ad) (fun _ _ => rfl) (fun k hk => by unfold va_up; rw [if_neg (by omega)])]
    congr 1
    exact congrArg (rv ad) (if_pos rfl).symm
  | c :: l, j, k + 1, h => by
    rw [List.getElem?_cons_succ] at h
    rw [mkF_cons, mkF_cons, List.set_cons_succ, mkF_setR l (j + 1) k h]
    rw [show j + 1 + k = j + (k + 1) by omega]
    have : va_up r (j + (k + 1)) v j = r j := if_neg (by omega)
    have e : fv ad i (va_up r (j + (k + 1)) v) c j = fv ad i r c j := by
      cases c
      · rfl
      · exact congrArg (rv ad) this
    rw [e]
theorem wfh_setI {h : HT} (w : WFH h) {p k : Nat} {v : Int32} (h0 : 200 ≤ p) : WFH (setI h p k v) := by
  refine ⟨fun q hq => ?_, w.2.1, w.2.2.1, w.2.2.2⟩
  obtain ⟨a, b, c, d⟩ := w.1 q hq
  exact ⟨a, b, (if_neg (by omega)).trans c, d⟩
theorem wfh_setA {h : HT} (w : WFH h) {p : Nat} {f : Nat → Int32} (h0 : 200 ≤ p) : WFH (setA h p f) := by
  refine ⟨fun q hq => ?_, w.2.1, w.2.2.1, w.2.2.2⟩
  obtain ⟨a, b, c, d⟩ := w.1 q hq
  exact ⟨a, b, (if_neg (by omega)).trans c, d⟩
theorem wfh_setR {h : HT} (w : WFH h) {p k v : Nat} (h0 : 200 ≤ p) (hv : v < 200 + hN h) : WFH (setR h p k v) := by
  refine ⟨fun q hq => ?_, w.2.1, fun q j => ?_, w.2.2.2⟩
  · obtain ⟨a, b, c, d⟩ := w.1 q hq
    exact ⟨a, b, c, (if_neg (by omega)).trans d⟩
  · show va_up h.2.2.2.2 p (va_up (h.2.2.2.2 p) k v) q j < _
    unfold va_up
    split
    · show (if j = k then v else h.2.2.2.2 p j) < 200 + hN h
      split
      · exact hv
      · exact w.2.2.1 p j
    · exact w.2.2.1 q j
theorem wfh_setRA {h : HT} (w : WFH h) {p : Nat} {f : Nat → Nat} (h0 : 200 ≤ p) (hv : ∀ j, f j < 200 + hN h) : WFH (setRA h p f) := by
  refine ⟨fun q hq => ?_, w.2.1, fun q j => ?_, w.2.2.2⟩
  · obtain ⟨a, b, c, d⟩ := w.1 q hq
    exact ⟨a, b, c, (if_neg (by omega)).trans d⟩
  · show va_up h.2.2.2.2 p f q j < _
    unfold va_up
    split
    · exact hv j
    · exact w.2.2.1 q j
theorem wfh_newp {h : HT} (w : WFH h) {c n : Nat} (hc : c ≠ 0) : WFH (newp h c n) := by
  refine ⟨fun q hq => ?_, fun q hq => ?_, fun q j => ?_, fun q h0 h1 => ?_⟩
  · obtain ⟨a, b, e, d⟩ := w.1 q hq
    exact ⟨(if_neg (by omega)).trans a, (if_neg (by omega)).trans b, (if_neg (by omega)).trans e, (if_neg (by omega)).trans d⟩
  · have hq : 200 + (h.1 + 1) ≤ q := hq
    exact (if_neg (by omega)).trans (w.2.1 q (by show 200 + h.1 ≤ q; omega))
  · show va_up h.2.2.2.2 (200 + h.1) (fun _ => 0) q j < 200 + (h.1 + 1)
    unfold va_up
    split
    · show 0 < 200 + (h.1 + 1)
      omega
    · have : h.2.2.2.2 q j < 200 + h.1 := w.2.2.1 q j
      omega
  · have h1 : q < 200 + (h.1 + 1) := h1
    show va_up h.2.1 (200 + h.1) c q ≠ 0
    unfold va_up
    split
    · exact hc
    · exact w.2.2.2 q h0 (by show q < 200 + h.1; omega)
theorem ro_eq {ad ad' : Nat → Nat} {v : Nat} (h : ad' v = ad v) : ro ad' v = ro ad v := by
  unfold ro
  rw [h]
theorem entv_ad {dA : Nat → ClassId} {ad ad' : Nat → Nat} {h : HT} {p : Nat} (hx : ∀ k, ad' (hR h p k) = ad (hR h p k)) : entv dA ad' h p = entv dA ad h p := by
  unfold entv
  rw [mkF_ext _ 0 (fun _ _ => rfl) (fun k _ => rv_eq (hx k)), show (fun k => ro ad' (hR h p k)) = fun k => ro ad (hR h p k) from funext fun k => ro_eq (hx k)]
/-- a place more -/
theorem PL_push {dA : Nat → ClassId} {ad : Nat → Nat} {h : HT} {c n q : Nat} {e : va_E} (w : WFH h) (he : entv dA (va_up ad (200 + hN h) q) (newp h c n) (200 + hN h) = e) : PL dA ad h ++ [(q, e)] = PL dA (va_up ad (200 + hN h) q) (newp h c n) := by
  unfold PL
  rw [show hN (newp h c n) = hN h + 1 from rfl, List.range_succ, List.map_append]
  congr 1
  · apply List.map_congr_left
    intro i hi
    have hi : i < hN h := List.mem_range.mp hi
    have e1 : va_up ad (200 + hN h) q (200 + i) = ad (200 + i) := if_neg (by omega)
    rw [e1]
    congr 1
    have e2 : entv dA (va_up ad (200 + hN h) q) (newp h c n) (200 + i) = entv dA (va_up ad (200 + hN h) q) h (200 + i) := entv_ext (if_neg (show ¬ 200 + i = 200 + h.1 by unfold hN at hi; omega)) (if_neg (show ¬ 200 + i = 200 + h.1 by unfold hN at hi; omega)) (if_neg (show ¬ 200 + i = 200 + h.1 by unfold hN at hi; omega)) (if_neg (show ¬ 200 + i = 200 + h.1 by unfold hN at hi; omega))
    rw [e2]
    exact (entv_ad (fun k => if_neg (Nat.ne_of_lt (w.2.2.1 _ k)))).symm
  · simp only [List.map_cons, List.map_nil]
    rw [he]
    congr 2
    exact (if_pos rfl).symm

