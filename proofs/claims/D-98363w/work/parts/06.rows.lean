set_option maxRecDepth 100000
/-- the world at a heap -/
def PW (D : va_G) (dA : Nat → ClassId) (A : Nat → Prop) (H0 : Heap) (ad : Nat → Nat) (h : HT) (H : Heap) (locs : List Loc) : Prop := va_P D CL (PL dA ad h) H ∧ va_D A (PL dA ad h) ∧ va_S A H0 H locs ∧ WFH h
/-- what stands all through a body -/
def CX (p : Program) (s : State) (m : MethodId) (args : Array Value) (c : Code) (meth : Method) (cc : ByteArray) (nL : Nat) (ret : Option FieldType) (own : String) (D : va_G) (dA : Nat → ClassId) (ad : Nat → Nat) (A : Nat → Prop) : Prop :=
  p.tables.exec = Jvm.exec ∧ c.code = cc ∧ c.maxLocals = nL ∧ s.vm.findClass own = some m.cls ∧ (∀ w ∈ lw_all, w.before args s = true) ∧ (∀ q, s.heap.size ≤ q → A q) ∧ KB D dA ad A s s.heap ∧ meth.sig.returnType = ret ∧ meth.locks = false
theorem ty_get {dA : Nat → ClassId} {c : Nat} {t : Nat} {ty : FieldType} (h : [(100, FieldType.int), (101, .byte), (102, .boolean), (110, .object "java/lang/Object"), (111, .object "java/lang/String"), (112, .object "SpoonRow$Value"), (109, .long)][t]? = some (c, ty)) : (TYS dA)[t]? = some (dA c, ty) := by
  have e : TYS dA = [(100, FieldType.int), (101, .byte), (102, .boolean), (110, .object "java/lang/Object"), (111, .object "java/lang/String"), (112, .object "SpoonRow$Value"), (109, .long)].map (fun q => (dA q.1, q.2)) := rfl
  rw [e, List.getElem?_map, h]
  rfl
theorem ent_o {dA : Nat → ClassId} {ad : Nat → Nat} {h : HT} {pl ci : Nat} (w : WFH h) (hk : hK h pl = ci + 1) (hc : ci < 99) : (PL dA ad h)[pl - 200]? = some (ad pl, .inr (ci, mkF ad (hI h pl) (hR h pl) (fT ci) 0)) := by
  obtain ⟨h0, h1⟩ := wfh_live w hk (by omega) (by omega)
  rw [PL_get h0 h1, entv_o hk hc]
theorem ent_a {dA : Nat → ClassId} {ad : Nat → Nat} {h : HT} {pl c : Nat} (w : WFH h) (hk : hK h pl = c) (h0 : 100 ≤ c) (h1 : c < 109) : (PL dA ad h)[pl - 200]? = some (ad pl, .inl (dA c, hL h pl, .inl (hI h pl))) := by
  obtain ⟨g0, g1⟩ := wfh_live w hk (by omega) (by omega)
  rw [PL_get g0 g1, entv_a hk h0 h1]
theorem ent_q {dA : Nat → ClassId} {ad : Nat → Nat} {h : HT} {pl c : Nat} (w : WFH h) (hk : hK h pl = c) (h0 : 110 ≤ c) (h1 : c < 1000) : (PL dA ad h)[pl - 200]? = some (ad pl, .inl (dA c, hL h pl, .inr (.inr (.inr (.inr (fun k => ro ad (hR h pl k))))))) := by
  obtain ⟨g0, g1⟩ := wfh_live w hk (by omega) (by omega)
  rw [PL_get g0 g1, entv_q hk h0]
theorem pl_nz {h : HT} {pl ci : Nat} (w : WFH h) (hk : hK h pl = ci) (h0 : 0 < ci) (h1 : ci < 1000) : pl ≠ 0 := by
  have := wfh_live w hk h0 h1
  omega
section ROWS
variable {p : Program} {l : Launch} {e : Env} {R : Room} {s : State} {m : MethodId} {args : Array Value} {below : List Frame} {meth : Method} {c : Code} {H : Heap} {locs : List Loc} {cells slots : Nat} {Q : State → Prop}
variable {cc : ByteArray} {nL pc : Nat} {ret : Option FieldType} {ls : Array Slot} {rest : List Value} {D : va_G} {dA : Nat → ClassId} {ad : Nat → Nat} {A : Nat → Prop} {h : HT} {own : String} {pl : Nat} {lv : List (Nat × TV)}
theorem ph_geti {ci k index N : Nat} {C ref : String} {T : u_T} (X : CX p s m args c meth cc nL ret own D dA ad A) (hin : ∀ w ∈ u_ws C T N, w ∈ lw_all) (hP : PW D dA A s.heap ad h H locs) (hk : hK h pl = ci + 1) (hci : ci < 99) (hc : CL[ci]? = some (C, T, N)) (hkN : k < N) (hf : (fT ci)[k]? = some false) (hlink : Cond.fieldLink own index ref (T k).2.1 (T k).2.2.1 ∈ lw_all) (hr : (T k).1 = ref) (hdg : decode cc pc = .ok (.getfield index, 3))
    (kk : W p l e R s m args below meth c H locs cells slots Q (F0 m (pc + 3) ls (.int (hI h pl k) :: rest))) : W p l e R s m args below meth c H locs cells slots Q (F0 m pc ls (rv ad pl :: rest)) := by
  obtain ⟨hx, hb, hml, hown, hts, hA, hkb, -, -⟩ := X
  obtain ⟨P1, P2, P3, P4⟩ := hP
  rw [rv_nz (pl_nz P4 hk (by omega) (by omega))]
  refine va_get (C := C) (T := T) (N := N) (ci := ci) (k := k) (ref := ref) hx hb hts hin hown hkb.1 P1 (pl - 200) (ent_o P4 hk hci) hc hkN (hts _ hlink) (fun x q => by rw [← hr]; exact q) (mkF_get (fT ci) 0 k false hf) hdg ?_
  rw [Nat.zero_add]
  exact kk
theorem ph_getr {ci k index N : Nat} {C ref : String} {T : u_T} (X : CX p s m args c meth cc nL ret own D dA ad A) (hin : ∀ w ∈ u_ws C T N, w ∈ lw_all) (hP : PW D dA A s.heap ad h H locs) (hk : hK h pl = ci + 1) (hci : ci < 99) (hc : CL[ci]? = some (C, T, N)) (hkN : k < N) (hf : (fT ci)[k]? = some true) (hlink : Cond.fieldLink own index ref (T k).2.1 (T k).2.2.1 ∈ lw_all) (hr : (T k).1 = ref) (hdg : decode cc pc = .ok (.getfield index, 3))
    (kk : W p l e R s m args below meth c H locs cells slots Q (F0 m (pc + 3) ls (rv ad (hR h pl k) :: rest))) : W p l e R s m args below meth c H locs cells slots Q (F0 m pc ls (rv ad pl :: rest)) := by
  obtain ⟨hx, hb, hml, hown, hts, hA, hkb, -, -⟩ := X
  obtain ⟨P1, P2, P3, P4⟩ := hP
  rw [rv_nz (pl_nz P4 hk (by omega) (by omega))]
  refine va_get (C := C) (T := T) (N := N) (ci := ci) (k := k) (ref := ref) hx hb hts hin hown hkb.1 P1 (pl - 200) (ent_o P4 hk hci) hc hkN (hts _ hlink) (fun x q => by rw [← hr]; exact q) (mkF_get (fT ci) 0 k true hf) hdg ?_
  rw [Nat.zero_add]
  exact kk
theorem ph_getiN {ci k index N : Nat} {C ref : String} {T : u_T} {host : String} (X : CX p s m args c meth cc nL ret own D dA ad A) (hin : ∀ w ∈ u_ws C T N, w ∈ lw_all) (hP : PW D dA A s.heap ad h H locs) (hk : hK h pl = ci + 1) (hci : ci < 99) (hc : CL[ci]? = some (C, T, N)) (hkN : k < N) (hf : (fT ci)[k]? = some false) (hlink : Cond.fieldLinkNest own index ref (T k).2.1 (T k).2.2.1 host ∈ lw_tbl) (hr : (T k).1 = ref) (hdg : decode cc pc = .ok (.getfield index, 3))
    (kk : W p l e R s m args below meth c H locs cells slots Q (F0 m (pc + 3) ls (.int (hI h pl k) :: rest))) : W p l e R s m args below meth c H locs cells slots Q (F0 m pc ls (rv ad pl :: rest)) := by
  obtain ⟨hx, hb, hml, hown, hts, hA, hkb, -, -⟩ := X
  obtain ⟨P1, P2, P3, P4⟩ := hP
  rw [rv_nz (pl_nz P4 hk (by omega) (by omega))]
  refine va_getN (C := C) (T := T) (N := N) (ci := ci) (k := k) (ref := ref) hx hb hts hin hown hkb.1 P1 (pl - 200) (ent_o P4 hk hci) hc hkN ((va_Nw.use rfl (hkb.2.1 _ hlink rfl))) (fun x q => by rw [← hr]; exact q) (mkF_get (fT ci) 0 k false hf) hdg ?_
  rw [Nat.zero_add]
  exact kk
theorem ph_getrN {ci k index N : Nat} {C ref : String} {T : u_T} {host : String} (X : CX p s m args c meth cc nL ret own D dA ad A) (hin : ∀ w ∈ u_ws C T N, w ∈ lw_all) (hP : PW D dA A s.heap ad h H locs) (hk : hK h pl = ci + 1) (hci : ci < 99) (hc : CL[ci]? = some (C, T, N)) (hkN : k < N) (hf : (fT ci)[k]? = some true) (hlink : Cond.fieldLinkNest own index ref (T k).2.1 (T k).2.2.1 host ∈ lw_tbl) (hr : (T k).1 = ref) (hdg : decode cc pc = .ok (.getfield index, 3))
    (kk : W p l e R s m args below meth c H locs cells slots Q (F0 m (pc + 3) ls (rv ad (hR h pl k) :: rest))) : W p l e R s m args below meth c H locs cells slots Q (F0 m pc ls (rv ad pl :: rest)) := by
  obtain ⟨hx, hb, hml, hown, hts, hA, hkb, -, -⟩ := X
  obtain ⟨P1, P2, P3, P4⟩ := hP
  rw [rv_nz (pl_nz P4 hk (by omega) (by omega))]
  refine va_getN (C := C) (T := T) (N := N) (ci := ci) (k := k) (ref := ref) hx hb hts hin hown hkb.1 P1 (pl - 200) (ent_o P4 hk hci) hc hkN ((va_Nw.use rfl (hkb.2.1 _ hlink rfl))) (fun x q => by rw [← hr]; exact q) (mkF_get (fT ci) 0 k true hf) hdg ?_
  rw [Nat.zero_add]
  exact kk
theorem pw_setI {H1 : Heap} {locs1 : List Loc} {H0 : Heap} {ci k : Nat} {v : Int32} (w : WFH h) (hk : hK h pl = ci + 1) (hci : ci < 99) (hf : (fT ci)[k]? = some false)
    (q1 : va_P D CL ((PL dA ad h).set (pl - 200) (ad pl, .inr (ci, (mkF ad (hI h pl) (hR h pl) (fT ci) 0).set k (.int v)))) H1) (q2 : va_D A ((PL dA ad h).set (pl - 200) (ad pl, .inr (ci, (mkF ad (hI h pl) (hR h pl) (fT ci) 0).set k (.int v))))) (q3 : va_S A H0 H1 locs1) : PW D dA A H0 ad (setI h pl k v) H1 locs1 := by
  obtain ⟨h0, h1⟩ := wfh_live w hk (by omega) (by omega)
  have e : (PL dA ad h).set (pl - 200) (ad pl, .inr (ci, (mkF ad (hI h pl) (hR h pl) (fT ci) 0).set k (.int v))) = PL dA ad (setI h pl k v) := by
    refine PL_set h0 h1 rfl (fun q hq => entv_ext rfl rfl (if_neg hq) rfl) ?_
    rw [entv_o (h := setI h pl k v) hk hci, mkF_setI _ _ _ hf, Nat.zero_add]
    rw [show hI (setI h pl k v) pl = upd (hI h pl) k v from if_pos rfl]
    rfl
  rw [e] at q1 q2
  exact ⟨q1, q2, q3, wfh_setI w h0⟩
theorem pw_setR {H1 : Heap} {locs1 : List Loc} {H0 : Heap} {ci k v : Nat} (w : WFH h) (hk : hK h pl = ci + 1) (hci : ci < 99) (hf : (fT ci)[k]? = some true) (hv : v < 200 + hN h)
    (q1 : va_P D CL ((PL dA ad h).set (pl - 200) (ad pl, .inr (ci, (mkF ad (hI h pl) (hR h pl) (fT ci) 0).set k (rv ad v)))) H1) (q2 : va_D A ((PL dA ad h).set (pl - 200) (ad pl, .inr (ci, (mkF ad (hI h pl) (hR h pl) (fT ci) 0).set k (rv ad v))))) (q3 : va_S A H0 H1 locs1) : PW D dA A H0 ad (setR h pl k v) H1 locs1 := by
  obtain ⟨h0, h1⟩ := wfh_live w hk (by omega) (by omega)
  have e : (PL dA ad h).set (pl - 200) (ad pl, .inr (ci, (mkF ad (hI h pl) (hR h pl) (fT ci) 0).set k (rv ad v))) = PL dA ad (setR h pl k v) := by
    refine PL_set h0 h1 rfl (fun q hq => entv_ext rfl rfl rfl (if_neg hq)) ?_
    rw [entv_o (h := setR h pl k v) hk hci, mkF_setR _ _ _ hf, Nat.zero_add]
    rw [show hR (setR h pl k v) pl = va_up (hR h pl) k v from if_pos rfl]
    rfl
  rw [e] at q1 q2
  exact ⟨q1, q2, q3, wfh_setR w h0 hv⟩
theorem rv_nar {ty : FieldType} {v : Nat} (ht : (∃ n, ty = .object n) ∨ ∃ t, ty = .array t) : narrow ty (rv ad v) = rv ad v ∧ fits ty (rv ad v) = true := by
  by_cases hv : v = 0
  · subst hv
    rw [rv_0]
    rcases ht with ⟨n, rfl⟩ | ⟨t, rfl⟩ <;> exact ⟨rfl, rfl⟩
  · rw [rv_nz hv]
    rcases ht with ⟨n, rfl⟩ | ⟨t, rfl⟩ <;> exact ⟨rfl, rfl⟩
theorem fT_lt {ad : Nat → Nat} {i : Nat → Int32} {r : Nat → Nat} {ci k : Nat} {b : Bool} (hf : (fT ci)[k]? = some b) : k < (mkF ad i r (fT ci) 0).length := by
  rw [mkF_len]
  exact (List.getElem?_eq_some_iff.mp hf).1
theorem ph_puti {ci k index N : Nat} {C ref : String} {T : u_T} {v : Int32} (X : CX p s m args c meth cc nL ret own D dA ad A) (hin : ∀ w ∈ u_ws C T N, w ∈ lw_all) (ty0 : Nat → FieldType) (hty : ∀ k, k < N → parseFieldDescriptor (T k).2.2.1 = some (ty0 k)) (hnm : ∀ a, a < N → ∀ b, b < N → a ≠ b → (T a).2.1 ≠ (T b).2.1) (hP : PW D dA A s.heap ad h H locs) (hk : hK h pl = ci + 1) (hci : ci < 99) (hc : CL[ci]? = some (C, T, N)) (hkN : k < N) (hf : (fT ci)[k]? = some false) (hlink : Cond.fieldLink own index ref (T k).2.1 (T k).2.2.1 ∈ lw_all) (hr : (T k).1 = ref) (hfin : (T k).2.2.2 = false) (hn : narrow (ty0 k) (.int v) = .int v) (hfit : fits (ty0 k) (.int v) = true) (hdg : decode cc pc = .ok (.putfield index, 3))
    (kk : ∀ (H1 : Heap) (locs1 : List Loc), PW D dA A s.heap ad (setI h pl k v) H1 locs1 → W p l e R s m args below meth c H1 locs1 cells slots Q (F0 m (pc + 3) ls rest)) : W p l e R s m args below meth c H locs cells slots Q (F0 m pc ls (.int v :: rv ad pl :: rest)) := by
  obtain ⟨hx, hb, hml, hown, hts, hA, hkb, -, -⟩ := X
  obtain ⟨P1, P2, P3, P4⟩ := hP
  rw [rv_nz (v := pl) (pl_nz P4 hk (by omega) (by omega))]
  exact va_put (C := C) (T := T) (N := N) (ci := ci) (k := k) (ref := ref) hx hb hts hin ty0 hty hnm hown hkb.1 P1 P2 P3 (pl - 200) (ent_o P4 hk hci) hc hkN (hts _ hlink) (fun x q => by rw [← hr]; exact q) hfin (hty k hkN) hn hfit (fT_lt hf) hdg (fun H1 locs1 q1 q2 q3 => kk H1 locs1 (pw_setI P4 hk hci hf q1 q2 q3))
theorem ph_putr {ci k index N : Nat} {C ref : String} {T : u_T} {v : Nat} (X : CX p s m args c meth cc nL ret own D dA ad A) (hin : ∀ w ∈ u_ws C T N, w ∈ lw_all) (ty0 : Nat → FieldType) (hty : ∀ k, k < N → parseFieldDescriptor (T k).2.2.1 = some (ty0 k)) (hnm : ∀ a, a < N → ∀ b, b < N → a ≠ b → (T a).2.1 ≠ (T b).2.1) (hP : PW D dA A s.heap ad h H locs) (hk : hK h pl = ci + 1) (hci : ci < 99) (hc : CL[ci]? = some (C, T, N)) (hkN : k < N) (hf : (fT ci)[k]? = some true) (hlink : Cond.fieldLink own index ref (T k).2.1 (T k).2.2.1 ∈ lw_all) (hr : (T k).1 = ref) (hfin : (T k).2.2.2 = false) (ht : (∃ n, ty0 k = .object n) ∨ ∃ t, ty0 k = .array t) (hv : v < 200 + hN h) (hdg : decode cc pc = .ok (.putfield index, 3))
    (kk : ∀ (H1 : Heap) (locs1 : List Loc), PW D dA A s.heap ad (setR h pl k v) H1 locs1 → W p l e R s m args below meth c H1 locs1 cells slots Q (F0 m (pc + 3) ls rest)) : W p l e R s m args below meth c H locs cells slots Q (F0 m pc ls (rv ad v :: rv ad pl :: rest)) := by
  obtain ⟨hx, hb, hml, hown, hts, hA, hkb, -, -⟩ := X
  obtain ⟨P1, P2, P3, P4⟩ := hP
  rw [rv_nz (v := pl) (pl_nz P4 hk (by omega) (by omega))]
  exact va_put (C := C) (T := T) (N := N) (ci := ci) (k := k) (ref := ref) hx hb hts hin ty0 hty hnm hown hkb.1 P1 P2 P3 (pl - 200) (ent_o P4 hk hci) hc hkN (hts _ hlink) (fun x q => by rw [← hr]; exact q) hfin (hty k hkN) (rv_nar ht).1 (rv_nar ht).2 (fT_lt hf) hdg (fun H1 locs1 q1 q2 q3 => kk H1 locs1 (pw_setR P4 hk hci hf hv q1 q2 q3))
theorem ph_putiN {ci k index N : Nat} {C ref : String} {T : u_T} {host : String} {v : Int32} (X : CX p s m args c meth cc nL ret own D dA ad A) (hin : ∀ w ∈ u_ws C T N, w ∈ lw_all) (ty0 : Nat → FieldType) (hty : ∀ k, k < N → parseFieldDescriptor (T k).2.2.1 = some (ty0 k)) (hnm : ∀ a, a < N → ∀ b, b < N → a ≠ b → (T a).2.1 ≠ (T b).2.1) (hP : PW D dA A s.heap ad h H locs) (hk : hK h pl = ci + 1) (hci : ci < 99) (hc : CL[ci]? = some (C, T, N)) (hkN : k < N) (hf : (fT ci)[k]? = some false) (hlink : Cond.fieldLinkNest own index ref (T k).2.1 (T k).2.2.1 host ∈ lw_tbl) (hr : (T k).1 = ref) (hfin : (T k).2.2.2 = false) (hn : narrow (ty0 k) (.int v) = .int v) (hfit : fits (ty0 k) (.int v) = true) (hdg : decode cc pc = .ok (.putfield index, 3))
    (kk : ∀ (H1 : Heap) (locs1 : List Loc), PW D dA A s.heap ad (setI h pl k v) H1 locs1 → W p l e R s m args below meth c H1 locs1 cells slots Q (F0 m (pc + 3) ls rest)) : W p l e R s m args below meth c H locs cells slots Q (F0 m pc ls (.int v :: rv ad pl :: rest)) := by
  obtain ⟨hx, hb, hml, hown, hts, hA, hkb, -, -⟩ := X
  obtain ⟨P1, P2, P3, P4⟩ := hP
  rw [rv_nz (v := pl) (pl_nz P4 hk (by omega) (by omega))]
  exact va_putN (C := C) (T := T) (N := N) (ci := ci) (k := k) (ref := ref) hx hb hts hin ty0 hty hnm hown hkb.1 P1 P2 P3 (pl - 200) (ent_o P4 hk hci) hc hkN ((va_Nw.use rfl (hkb.2.1 _ hlink rfl))) (fun x q => by rw [← hr]; exact q) hfin (hty k hkN) hn hfit (fT_lt hf) hdg (fun H1 locs1 q1 q2 q3 => kk H1 locs1 (pw_setI P4 hk hci hf q1 q2 q3))
theorem ph_putrN {ci k index N : Nat} {C ref : String} {T : u_T} {host : String} {v : Nat} (X : CX p s m args c meth cc nL ret own D dA ad A) (hin : ∀ w ∈ u_ws C T N, w ∈ lw_all) (ty0 : Nat → FieldType) (hty : ∀ k, k < N → parseFieldDescriptor (T k).2.2.1 = some (ty0 k)) (hnm : ∀ a, a < N → ∀ b, b < N → a ≠ b → (T a).2.1 ≠ (T b).2.1) (hP : PW D dA A s.heap ad h H locs) (hk : hK h pl = ci + 1) (hci : ci < 99) (hc : CL[ci]? = some (C, T, N)) (hkN : k < N) (hf : (fT ci)[k]? = some true) (hlink : Cond.fieldLinkNest own index ref (T k).2.1 (T k).2.2.1 host ∈ lw_tbl) (hr : (T k).1 = ref) (hfin : (T k).2.2.2 = false) (ht : (∃ n, ty0 k = .object n) ∨ ∃ t, ty0 k = .array t) (hv : v < 200 + hN h) (hdg : decode cc pc = .ok (.putfield index, 3))
    (kk : ∀ (H1 : Heap) (locs1 : List Loc), PW D dA A s.heap ad (setR h pl k v) H1 locs1 → W p l e R s m args below meth c H1 locs1 cells slots Q (F0 m (pc + 3) ls rest)) : W p l e R s m args below meth c H locs cells slots Q (F0 m pc ls (rv ad v :: rv ad pl :: rest)) := by
  obtain ⟨hx, hb, hml, hown, hts, hA, hkb, -, -⟩ := X
  obtain ⟨P1, P2, P3, P4⟩ := hP
  rw [rv_nz (v := pl) (pl_nz P4 hk (by omega) (by omega))]
  exact va_putN (C := C) (T := T) (N := N) (ci := ci) (k := k) (ref := ref) hx hb hts hin ty0 hty hnm hown hkb.1 P1 P2 P3 (pl - 200) (ent_o P4 hk hci) hc hkN ((va_Nw.use rfl (hkb.2.1 _ hlink rfl))) (fun x q => by rw [← hr]; exact q) hfin (hty k hkN) (rv_nar ht).1 (rv_nar ht).2 (fT_lt hf) hdg (fun H1 locs1 q1 q2 q3 => kk H1 locs1 (pw_setR P4 hk hci hf hv q1 q2 q3))
theorem ph_putiF {ci k index N : Nat} {C ref : String} {T : u_T} {v : Int32} (X : CX p s m args c meth cc nL ret own D dA ad A) (hin : ∀ w ∈ u_ws C T N, w ∈ lw_all) (ty0 : Nat → FieldType) (hty : ∀ k, k < N → parseFieldDescriptor (T k).2.2.1 = some (ty0 k)) (hnm : ∀ a, a < N → ∀ b, b < N → a ≠ b → (T a).2.1 ≠ (T b).2.1) (hP : PW D dA A s.heap ad h H locs) (hk : hK h pl = ci + 1) (hci : ci < 99) (hc : CL[ci]? = some (C, T, N)) (hkN : k < N) (hf : (fT ci)[k]? = some false) (hlink : Cond.fieldLink own index ref (T k).2.1 (T k).2.2.1 ∈ lw_all) (hr : (T k).1 = ref) (hfin : (T k).2.2.2 = true) (hnm2 : meth.name = "<init>") (hdecl : (T k).1 = own) (hn : narrow (ty0 k) (.int v) = .int v) (hfit : fits (ty0 k) (.int v) = true) (hdg : decode cc pc = .ok (.putfield index, 3))
    (kk : ∀ (H1 : Heap) (locs1 : List Loc), PW D dA A s.heap ad (setI h pl k v) H1 locs1 → W p l e R s m args below meth c H1 locs1 cells slots Q (F0 m (pc + 3) ls rest)) : W p l e R s m args below meth c H locs cells slots Q (F0 m pc ls (.int v :: rv ad pl :: rest)) := by
  obtain ⟨hx, hb, hml, hown, hts, hA, hkb, -, -⟩ := X
  obtain ⟨P1, P2, P3, P4⟩ := hP
  rw [rv_nz (v := pl) (pl_nz P4 hk (by omega) (by omega))]
  exact va_putF (C := C) (T := T) (N := N) (ci := ci) (k := k) (ref := ref) hx hb hts hin ty0 hty hnm hown hkb.1 P1 P2 P3 (pl - 200) (ent_o P4 hk hci) hc hkN (hts _ hlink) (fun x q => by rw [← hr]; exact q) hfin hnm2 hdecl (hty k hkN) hn hfit (fT_lt hf) hdg (fun H1 locs1 q1 q2 q3 => kk H1 locs1 (pw_setI P4 hk hci hf q1 q2 q3))
theorem ph_putrF {ci k index N : Nat} {C ref : String} {T : u_T} {v : Nat} (X : CX p s m args c meth cc nL ret own D dA ad A) (hin : ∀ w ∈ u_ws C T N, w ∈ lw_all) (ty0 : Nat → FieldType) (hty : ∀ k, k < N → parseFieldDescriptor (T k).2.2.1 = some (ty0 k)) (hnm : ∀ a, a < N → ∀ b, b < N → a ≠ b → (T a).2.1 ≠ (T b).2.1) (hP : PW D dA A s.heap ad h H locs) (hk : hK h pl = ci + 1) (hci : ci < 99) (hc : CL[ci]? = some (C, T, N)) (hkN : k < N) (hf : (fT ci)[k]? = some true) (hlink : Cond.fieldLink own index ref (T k).2.1 (T k).2.2.1 ∈ lw_all) (hr : (T k).1 = ref) (hfin : (T k).2.2.2 = true) (hnm2 : meth.name = "<init>") (hdecl : (T k).1 = own) (ht : (∃ n, ty0 k = .object n) ∨ ∃ t, ty0 k = .array t) (hv : v < 200 + hN h) (hdg : decode cc pc = .ok (.putfield index, 3))
    (kk : ∀ (H1 : Heap) (locs1 : List Loc), PW D dA A s.heap ad (setR h pl k v) H1 locs1 → W p l e R s m args below meth c H1 locs1 cells slots Q (F0 m (pc + 3) ls rest)) : W p l e R s m args below meth c H locs cells slots Q (F0 m pc ls (rv ad v :: rv ad pl :: rest)) := by
  obtain ⟨hx, hb, hml, hown, hts, hA, hkb, -, -⟩ := X
  obtain ⟨P1, P2, P3, P4⟩ := hP
  rw [rv_nz (v := pl) (pl_nz P4 hk (by omega) (by omega))]
  exact va_putF (C := C) (T := T) (N := N) (ci := ci) (k := k) (ref := ref) hx hb hts hin ty0 hty hnm hown hkb.1 P1 P2 P3 (pl - 200) (ent_o P4 hk hci) hc hkN (hts _ hlink) (fun x q => by rw [← hr]; exact q) hfin hnm2 hdecl (hty k hkN) (rv_nar ht).1 (rv_nar ht).2 (fT_lt hf) hdg (fun H1 locs1 q1 q2 q3 => kk H1 locs1 (pw_setR P4 hk hci hf hv q1 q2 q3))
theorem ph_iald {i : Int32} {k : Nat} (X : CX p s m args c meth cc nL ret own D dA ad A) (hP : PW D dA A s.heap ad h H locs) (hk : hK h pl = 100) (hin : vp_in i (hL h pl)) (hi : i.toNatClampNeg = k) (hdg : decode cc pc = .ok (.iaload, 1))
    (kk : W p l e R s m args below meth c H locs cells slots Q (F0 m (pc + 1) ls (.int (hI h pl k) :: rest))) : W p l e R s m args below meth c H locs cells slots Q (F0 m pc ls (.int i :: rv ad pl :: rest)) := by
  obtain ⟨hx, hb, hml, hown, hts, hA, hkb, -, -⟩ := X
  obtain ⟨P1, P2, P3, P4⟩ := hP
  subst hi
  rw [rv_nz (pl_nz P4 hk (by omega) (by omega))]
  exact va_iald hx hb hkb.1 P1 (pl - 200) 0 (ent_a P4 hk (by omega) (by omega)) (ty_get rfl) hin hdg kk
theorem ph_bald {i : Int32} {k : Nat} (X : CX p s m args c meth cc nL ret own D dA ad A) (hP : PW D dA A s.heap ad h H locs) (hk : hK h pl = 101) (hin : vp_in i (hL h pl)) (hi : i.toNatClampNeg = k) (hdg : decode cc pc = .ok (.baload, 1))
    (kk : W p l e R s m args below meth c H locs cells slots Q (F0 m (pc + 1) ls (.int (hI h pl k) :: rest))) : W p l e R s m args below meth c H locs cells slots Q (F0 m pc ls (.int i :: rv ad pl :: rest)) := by
  obtain ⟨hx, hb, hml, hown, hts, hA, hkb, -, -⟩ := X
  obtain ⟨P1, P2, P3, P4⟩ := hP
  subst hi
  rw [rv_nz (pl_nz P4 hk (by omega) (by omega))]
  exact va_bald hx hb hkb.1 P1 (pl - 200) 1 (ent_a P4 hk (by omega) (by omega)) (ty_get rfl) hin hdg kk
theorem ph_zald {i : Int32} {k : Nat} (X : CX p s m args c meth cc nL ret own D dA ad A) (hP : PW D dA A s.heap ad h H locs) (hk : hK h pl = 102) (hin : vp_in i (hL h pl)) (hi : i.toNatClampNeg = k) (hdg : decode cc pc = .ok (.baload, 1))
    (kk : W p l e R s m args below meth c H locs cells slots Q (F0 m (pc + 1) ls (.int (hI h pl k) :: rest))) : W p l e R s m args below meth c H locs cells slots Q (F0 m pc ls (.int i :: rv ad pl :: rest)) := by
  obtain ⟨hx, hb, hml, hown, hts, hA, hkb, -, -⟩ := X
  obtain ⟨P1, P2, P3, P4⟩ := hP
  subst hi
  rw [rv_nz (pl_nz P4 hk (by omega) (by omega))]
  exact va_zald hx hb hkb.1 P1 (pl - 200) 2 (ent_a P4 hk (by omega) (by omega)) (ty_get rfl) hin hdg kk
theorem pw_setA {H1 : Heap} {locs1 : List Loc} {H0 : Heap} {c : Nat} {f : Nat → Int32} (w : WFH h) (hk : hK h pl = c) (h100 : 100 ≤ c) (h110 : c < 109)
    (q1 : va_P D CL ((PL dA ad h).set (pl - 200) (ad pl, .inl (dA c, hL h pl, .inl f))) H1) (q2 : va_D A ((PL dA ad h).set (pl - 200) (ad pl, .inl (dA c, hL h pl, .inl f)))) (q3 : va_S A H0 H1 locs1) : PW D dA A H0 ad (setA h pl f) H1 locs1 := by
  obtain ⟨h0, h1⟩ := wfh_live w hk (by omega) (by omega)
  have e : (PL dA ad h).set (pl - 200) (ad pl, .inl (dA c, hL h pl, .inl f)) = PL dA ad (setA h pl f) := by
    refine PL_set h0 h1 rfl (fun q hq => entv_ext rfl rfl (if_neg hq) rfl) ?_
    rw [entv_a (h := setA h pl f) hk h100 h110]
    rw [show hI (setA h pl f) pl = f from if_pos rfl]
    rfl
  rw [e] at q1 q2
  exact ⟨q1, q2, q3, wfh_setA w h0⟩
theorem setA_setI {k : Nat} {v : Int32} : setA h pl (upd (hI h pl) k v) = setI h pl k v := rfl
theorem ph_iast {i x : Int32} {k : Nat} (X : CX p s m args c meth cc nL ret own D dA ad A) (hP : PW D dA A s.heap ad h H locs) (hk : hK h pl = 100) (hin : vp_in i (hL h pl)) (hi : i.toNatClampNeg = k) (hdg : decode cc pc = .ok (.iastore, 1))
    (kk : ∀ (H1 : Heap) (locs1 : List Loc), PW D dA A s.heap ad (setI h pl k (x)) H1 locs1 → W p l e R s m args below meth c H1 locs1 cells slots Q (F0 m (pc + 1) ls rest)) : W p l e R s m args below meth c H locs cells slots Q (F0 m pc ls (.int x :: .int i :: rv ad pl :: rest)) := by
  obtain ⟨hx, hb, hml, hown, hts, hA, hkb, -, -⟩ := X
  obtain ⟨P1, P2, P3, P4⟩ := hP
  subst hi
  rw [rv_nz (pl_nz P4 hk (by omega) (by omega))]
  exact va_iast hx hb hkb.1 P1 P2 P3 (pl - 200) 0 (ent_a P4 hk (by omega) (by omega)) (ty_get rfl) hin hdg (fun H1 locs1 q1 q2 q3 => kk H1 locs1 (pw_setA P4 hk (by omega) (by omega) q1 q2 q3))
theorem ph_bast {i x : Int32} {k : Nat} (X : CX p s m args c meth cc nL ret own D dA ad A) (hP : PW D dA A s.heap ad h H locs) (hk : hK h pl = 101) (hin : vp_in i (hL h pl)) (hi : i.toNatClampNeg = k) (hdg : decode cc pc = .ok (.bastore, 1))
    (kk : ∀ (H1 : Heap) (locs1 : List Loc), PW D dA A s.heap ad (setI h pl k (vp_nar .byte x)) H1 locs1 → W p l e R s m args below meth c H1 locs1 cells slots Q (F0 m (pc + 1) ls rest)) : W p l e R s m args below meth c H locs cells slots Q (F0 m pc ls (.int x :: .int i :: rv ad pl :: rest)) := by
  obtain ⟨hx, hb, hml, hown, hts, hA, hkb, -, -⟩ := X
  obtain ⟨P1, P2, P3, P4⟩ := hP
  subst hi
  rw [rv_nz (pl_nz P4 hk (by omega) (by omega))]
  exact va_bast hx hb hkb.1 P1 P2 P3 (pl - 200) 1 (ent_a P4 hk (by omega) (by omega)) (ty_get rfl) hin hdg (fun H1 locs1 q1 q2 q3 => kk H1 locs1 (pw_setA P4 hk (by omega) (by omega) q1 q2 q3))
theorem ph_zast {i x : Int32} {k : Nat} (X : CX p s m args c meth cc nL ret own D dA ad A) (hP : PW D dA A s.heap ad h H locs) (hk : hK h pl = 102) (hin : vp_in i (hL h pl)) (hi : i.toNatClampNeg = k) (hdg : decode cc pc = .ok (.bastore, 1))
    (kk : ∀ (H1 : Heap) (locs1 : List Loc), PW D dA A s.heap ad (setI h pl k (vp_nar .boolean x)) H1 locs1 → W p l e R s m args below meth c H1 locs1 cells slots Q (F0 m (pc + 1) ls rest)) : W p l e R s m args below meth c H locs cells slots Q (F0 m pc ls (.int x :: .int i :: rv ad pl :: rest)) := by
  obtain ⟨hx, hb, hml, hown, hts, hA, hkb, -, -⟩ := X
  obtain ⟨P1, P2, P3, P4⟩ := hP
  subst hi
  rw [rv_nz (pl_nz P4 hk (by omega) (by omega))]
  exact va_zast hx hb hkb.1 P1 P2 P3 (pl - 200) 2 (ent_a P4 hk (by omega) (by omega)) (ty_get rfl) hin hdg (fun H1 locs1 q1 q2 q3 => kk H1 locs1 (pw_setA P4 hk (by omega) (by omega) q1 q2 q3))
theorem ph_aaldO {i : Int32} {k : Nat} (X : CX p s m args c meth cc nL ret own D dA ad A) (hP : PW D dA A s.heap ad h H locs) (hk : hK h pl = 110) (hin : vp_in i (hL h pl)) (hi : i.toNatClampNeg = k) (hdg : decode cc pc = .ok (.aaload, 1))
    (kk : W p l e R s m args below meth c H locs cells slots Q (F0 m (pc + 1) ls (rv ad (hR h pl k) :: rest))) : W p l e R s m args below meth c H locs cells slots Q (F0 m pc ls (.int i :: rv ad pl :: rest)) := by
  obtain ⟨hx, hb, hml, hown, hts, hA, hkb, -, -⟩ := X
  obtain ⟨P1, P2, P3, P4⟩ := hP
  subst hi
  rw [rv_nz (pl_nz P4 hk (by omega) (by omega))]
  exact va_aldq hx hb hkb.1 P1 (pl - 200) 3 (ent_q P4 hk (by omega) (by omega)) (ty_get rfl) hin hdg kk
theorem ph_aaldS {i : Int32} {k : Nat} (X : CX p s m args c meth cc nL ret own D dA ad A) (hP : PW D dA A s.heap ad h H locs) (hk : hK h pl = 111) (hin : vp_in i (hL h pl)) (hi : i.toNatClampNeg = k) (hdg : decode cc pc = .ok (.aaload, 1))
    (kk : W p l e R s m args below meth c H locs cells slots Q (F0 m (pc + 1) ls (rv ad (hR h pl k) :: rest))) : W p l e R s m args below meth c H locs cells slots Q (F0 m pc ls (.int i :: rv ad pl :: rest)) := by
  obtain ⟨hx, hb, hml, hown, hts, hA, hkb, -, -⟩ := X
  obtain ⟨P1, P2, P3, P4⟩ := hP
  subst hi
  rw [rv_nz (pl_nz P4 hk (by omega) (by omega))]
  exact va_aldq hx hb hkb.1 P1 (pl - 200) 4 (ent_q P4 hk (by omega) (by omega)) (ty_get rfl) hin hdg kk
theorem ph_aaldV {i : Int32} {k : Nat} (X : CX p s m args c meth cc nL ret own D dA ad A) (hP : PW D dA A s.heap ad h H locs) (hk : hK h pl = 112) (hin : vp_in i (hL h pl)) (hi : i.toNatClampNeg = k) (hdg : decode cc pc = .ok (.aaload, 1))
    (kk : W p l e R s m args below meth c H locs cells slots Q (F0 m (pc + 1) ls (rv ad (hR h pl k) :: rest))) : W p l e R s m args below meth c H locs cells slots Q (F0 m pc ls (.int i :: rv ad pl :: rest)) := by
  obtain ⟨hx, hb, hml, hown, hts, hA, hkb, -, -⟩ := X
  obtain ⟨P1, P2, P3, P4⟩ := hP
  subst hi
  rw [rv_nz (pl_nz P4 hk (by omega) (by omega))]
  exact va_aldq hx hb hkb.1 P1 (pl - 200) 5 (ent_q P4 hk (by omega) (by omega)) (ty_get rfl) hin hdg kk
theorem ph_alenI {v : Int32} (X : CX p s m args c meth cc nL ret own D dA ad A) (hP : PW D dA A s.heap ad h H locs) (hk : hK h pl = 100) (hv : Int32.ofNat (hL h pl) = v) (hdg : decode cc pc = .ok (.arraylength, 1))
    (kk : W p l e R s m args below meth c H locs cells slots Q (F0 m (pc + 1) ls (.int v :: rest))) : W p l e R s m args below meth c H locs cells slots Q (F0 m pc ls (rv ad pl :: rest)) := by
  obtain ⟨hx, hb, hml, hown, hts, hA, hkb, -, -⟩ := X
  obtain ⟨P1, P2, P3, P4⟩ := hP
  rw [rv_nz (pl_nz P4 hk (by omega) (by omega))]
  exact va_alen hx hb hkb.1 P1 (pl - 200) 0 (ent_a P4 hk (by omega) (by omega)) (ty_get rfl) hv hdg kk
theorem ph_alenB {v : Int32} (X : CX p s m args c meth cc nL ret own D dA ad A) (hP : PW D dA A s.heap ad h H locs) (hk : hK h pl = 101) (hv : Int32.ofNat (hL h pl) = v) (hdg : decode cc pc = .ok (.arraylength, 1))
    (kk : W p l e R s m args below meth c H locs cells slots Q (F0 m (pc + 1) ls (.int v :: rest))) : W p l e R s m args below meth c H locs cells slots Q (F0 m pc ls (rv ad pl :: rest)) := by
  obtain ⟨hx, hb, hml, hown, hts, hA, hkb, -, -⟩ := X
  obtain ⟨P1, P2, P3, P4⟩ := hP
  rw [rv_nz (pl_nz P4 hk (by omega) (by omega))]
  exact va_alen hx hb hkb.1 P1 (pl - 200) 1 (ent_a P4 hk (by omega) (by omega)) (ty_get rfl) hv hdg kk
theorem ph_alenZ {v : Int32} (X : CX p s m args c meth cc nL ret own D dA ad A) (hP : PW D dA A s.heap ad h H locs) (hk : hK h pl = 102) (hv : Int32.ofNat (hL h pl) = v) (hdg : decode cc pc = .ok (.arraylength, 1))
    (kk : W p l e R s m args below meth c H locs cells slots Q (F0 m (pc + 1) ls (.int v :: rest))) : W p l e R s m args below meth c H locs cells slots Q (F0 m pc ls (rv ad pl :: rest)) := by
  obtain ⟨hx, hb, hml, hown, hts, hA, hkb, -, -⟩ := X
  obtain ⟨P1, P2, P3, P4⟩ := hP
  rw [rv_nz (pl_nz P4 hk (by omega) (by omega))]
  exact va_alen hx hb hkb.1 P1 (pl - 200) 2 (ent_a P4 hk (by omega) (by omega)) (ty_get rfl) hv hdg kk
theorem ph_alenO {v : Int32} (X : CX p s m args c meth cc nL ret own D dA ad A) (hP : PW D dA A s.heap ad h H locs) (hk : hK h pl = 110) (hv : Int32.ofNat (hL h pl) = v) (hdg : decode cc pc = .ok (.arraylength, 1))
    (kk : W p l e R s m args below meth c H locs cells slots Q (F0 m (pc + 1) ls (.int v :: rest))) : W p l e R s m args below meth c H locs cells slots Q (F0 m pc ls (rv ad pl :: rest)) := by
  obtain ⟨hx, hb, hml, hown, hts, hA, hkb, -, -⟩ := X
  obtain ⟨P1, P2, P3, P4⟩ := hP
  rw [rv_nz (pl_nz P4 hk (by omega) (by omega))]
  exact va_alen hx hb hkb.1 P1 (pl - 200) 3 (ent_q P4 hk (by omega) (by omega)) (ty_get rfl) hv hdg kk
theorem ph_alenS {v : Int32} (X : CX p s m args c meth cc nL ret own D dA ad A) (hP : PW D dA A s.heap ad h H locs) (hk : hK h pl = 111) (hv : Int32.ofNat (hL h pl) = v) (hdg : decode cc pc = .ok (.arraylength, 1))
    (kk : W p l e R s m args below meth c H locs cells slots Q (F0 m (pc + 1) ls (.int v :: rest))) : W p l e R s m args below meth c H locs cells slots Q (F0 m pc ls (rv ad pl :: rest)) := by
  obtain ⟨hx, hb, hml, hown, hts, hA, hkb, -, -⟩ := X
  obtain ⟨P1, P2, P3, P4⟩ := hP
  rw [rv_nz (pl_nz P4 hk (by omega) (by omega))]
  exact va_alen hx hb hkb.1 P1 (pl - 200) 4 (ent_q P4 hk (by omega) (by omega)) (ty_get rfl) hv hdg kk
theorem ph_alenV {v : Int32} (X : CX p s m args c meth cc nL ret own D dA ad A) (hP : PW D dA A s.heap ad h H locs) (hk : hK h pl = 112) (hv : Int32.ofNat (hL h pl) = v) (hdg : decode cc pc = .ok (.arraylength, 1))
    (kk : W p l e R s m args below meth c H locs cells slots Q (F0 m (pc + 1) ls (.int v :: rest))) : W p l e R s m args below meth c H locs cells slots Q (F0 m pc ls (rv ad pl :: rest)) := by
  obtain ⟨hx, hb, hml, hown, hts, hA, hkb, -, -⟩ := X
  obtain ⟨P1, P2, P3, P4⟩ := hP
  rw [rv_nz (pl_nz P4 hk (by omega) (by omega))]
  exact va_alen hx hb hkb.1 P1 (pl - 200) 5 (ent_q P4 hk (by omega) (by omega)) (ty_get rfl) hv hdg kk
theorem ph_iload_n {k : Fin 4} {i n : Nat} {x : Int32} (X : CX p s m args c meth cc nL ret own D dA ad A) (hl : LH ad ls nL lv) (hdg : decode cc pc = .ok (.iload_n k, 1)) (hi : (k : Nat) = i) (hat : lv[n]? = some (i, iX x))
    (kk : W p l e R s m args below meth c H locs cells slots Q (F0 m (pc + 1) ls (.int x :: rest))) : W p l e R s m args below meth c H locs cells slots Q (F0 m pc ls rest) := lv_iload_n X.1 X.2.1 hdg hi (lh_at hl n hat) kk
theorem ph_iload {i n : Nat} {x : Int32} (X : CX p s m args c meth cc nL ret own D dA ad A) (hl : LH ad ls nL lv) (hdg : decode cc pc = .ok (.iload i, 2)) (hat : lv[n]? = some (i, iX x))
    (kk : W p l e R s m args below meth c H locs cells slots Q (F0 m (pc + 2) ls (.int x :: rest))) : W p l e R s m args below meth c H locs cells slots Q (F0 m pc ls rest) := lv_iload X.1 X.2.1 hdg (lh_at hl n hat) kk
theorem ph_lload_n {k : Fin 4} {i n : Nat} {x : Int64} (X : CX p s m args c meth cc nL ret own D dA ad A) (hl : LH ad ls nL lv) (hdg : decode cc pc = .ok (.lload_n k, 1)) (hi : (k : Nat) = i) (hat : lv[n]? = some (i, lX x))
    (kk : W p l e R s m args below meth c H locs cells slots Q (F0 m (pc + 1) ls (.long x :: rest))) : W p l e R s m args below meth c H locs cells slots Q (F0 m pc ls rest) := lv_lload_n X.1 X.2.1 hdg hi (lh_at hl n hat) kk
theorem ph_lload {i n : Nat} {x : Int64} (X : CX p s m args c meth cc nL ret own D dA ad A) (hl : LH ad ls nL lv) (hdg : decode cc pc = .ok (.lload i, 2)) (hat : lv[n]? = some (i, lX x))
    (kk : W p l e R s m args below meth c H locs cells slots Q (F0 m (pc + 2) ls (.long x :: rest))) : W p l e R s m args below meth c H locs cells slots Q (F0 m pc ls rest) := lv_lload X.1 X.2.1 hdg (lh_at hl n hat) kk
theorem ph_aload_n {k : Fin 4} {i n v : Nat} (X : CX p s m args c meth cc nL ret own D dA ad A) (hl : LH ad ls nL lv) (hdg : decode cc pc = .ok (.aload_n k, 1)) (hi : (k : Nat) = i) (hat : lv[n]? = some (i, pX v))
    (kk : W p l e R s m args below meth c H locs cells slots Q (F0 m (pc + 1) ls (rv ad v :: rest))) : W p l e R s m args below meth c H locs cells slots Q (F0 m pc ls rest) := by
  have h1 := lh_at hl n hat
  have h1 : ls[i]? = some (.val (rv ad v)) := h1
  by_cases hv : v = 0
  · subst hv
    exact lv_aload_nN X.1 X.2.1 hdg hi h1 kk
  · rw [rv_nz hv] at h1 kk
    exact lv_aload_n X.1 X.2.1 hdg hi h1 kk
theorem ph_aload {i n v : Nat} (X : CX p s m args c meth cc nL ret own D dA ad A) (hl : LH ad ls nL lv) (hdg : decode cc pc = .ok (.aload i, 2)) (hat : lv[n]? = some (i, pX v))
    (kk : W p l e R s m args below meth c H locs cells slots Q (F0 m (pc + 2) ls (rv ad v :: rest))) : W p l e R s m args below meth c H locs cells slots Q (F0 m pc ls rest) := by
  have h1 := lh_at hl n hat
  have h1 : ls[i]? = some (.val (rv ad v)) := h1
  by_cases hv : v = 0
  · subst hv
    exact lv_aloadN X.1 X.2.1 hdg h1 kk
  · rw [rv_nz hv] at h1 kk
    exact lv_aload X.1 X.2.1 hdg h1 kk
theorem ph_istore_n {k : Fin 4} {i : Nat} {x : Int32} {lv' : List (Nat × TV)} (X : CX p s m args c meth cc nL ret own D dA ad A) (hl : LH ad ls nL lv) (hdg : decode cc pc = .ok (.istore_n k, 1)) (hi : (k : Nat) = i) (hn : i < nL) (he : (i, iX x) :: lst lv i = lv')
    (kk : ∀ ls' : Array Slot, LH ad ls' nL lv' → W p l e R s m args below meth c H locs cells slots Q (F0 m (pc + 1) ls' rest)) : W p l e R s m args below meth c H locs cells slots Q (F0 m pc ls (.int x :: rest)) := by
  have e9 : (i, Value.int x) :: (lv.map fun q => (q.1, tv ad q.2)).filter (fun q => !(q.1 == i) && !(q.1 + 1 == i && q.2.category == 2)) = lv'.map fun q => (q.1, tv ad q.2) := by rw [lst_map, ← he]; rfl
  exact lv_istore_n X.1 X.2.1 hdg hi hl hn e9 kk
theorem ph_istore {i : Nat} {x : Int32} {lv' : List (Nat × TV)} (X : CX p s m args c meth cc nL ret own D dA ad A) (hl : LH ad ls nL lv) (hdg : decode cc pc = .ok (.istore i, 2)) (hn : i < nL) (he : (i, iX x) :: lst lv i = lv')
    (kk : ∀ ls' : Array Slot, LH ad ls' nL lv' → W p l e R s m args below meth c H locs cells slots Q (F0 m (pc + 2) ls' rest)) : W p l e R s m args below meth c H locs cells slots Q (F0 m pc ls (.int x :: rest)) := by
  have e9 : (i, Value.int x) :: (lv.map fun q => (q.1, tv ad q.2)).filter (fun q => !(q.1 == i) && !(q.1 + 1 == i && q.2.category == 2)) = lv'.map fun q => (q.1, tv ad q.2) := by rw [lst_map, ← he]; rfl
  exact lv_istore X.1 X.2.1 hdg hl hn e9 kk
theorem ph_astore_n {k : Fin 4} {i v : Nat} {lv' : List (Nat × TV)} (X : CX p s m args c meth cc nL ret own D dA ad A) (hl : LH ad ls nL lv) (hdg : decode cc pc = .ok (.astore_n k, 1)) (hi : (k : Nat) = i) (hn : i < nL) (he : (i, pX v) :: lst lv i = lv')
    (kk : ∀ ls' : Array Slot, LH ad ls' nL lv' → W p l e R s m args below meth c H locs cells slots Q (F0 m (pc + 1) ls' rest)) : W p l e R s m args below meth c H locs cells slots Q (F0 m pc ls (rv ad v :: rest)) := by
  have e : (i, rv ad v) :: (lv.map fun q => (q.1, tv ad q.2)).filter (fun q => !(q.1 == i) && !(q.1 + 1 == i && q.2.category == 2)) = lv'.map fun q => (q.1, tv ad q.2) := by rw [lst_map, ← he]; rfl
  by_cases hv : v = 0
  · subst hv
    exact lv_astore_nN X.1 X.2.1 hdg hi hl hn e kk
  · rw [rv_nz hv] at e ⊢
    exact lv_astore_n X.1 X.2.1 hdg hi hl hn e kk
theorem ph_astore {i v : Nat} {lv' : List (Nat × TV)} (X : CX p s m args c meth cc nL ret own D dA ad A) (hl : LH ad ls nL lv) (hdg : decode cc pc = .ok (.astore i, 2)) (hn : i < nL) (he : (i, pX v) :: lst lv i = lv')
    (kk : ∀ ls' : Array Slot, LH ad ls' nL lv' → W p l e R s m args below meth c H locs cells slots Q (F0 m (pc + 2) ls' rest)) : W p l e R s m args below meth c H locs cells slots Q (F0 m pc ls (rv ad v :: rest)) := by
  have e : (i, rv ad v) :: (lv.map fun q => (q.1, tv ad q.2)).filter (fun q => !(q.1 == i) && !(q.1 + 1 == i && q.2.category == 2)) = lv'.map fun q => (q.1, tv ad q.2) := by rw [lst_map, ← he]; rfl
  by_cases hv : v = 0
  · subst hv
    exact lv_astoreN X.1 X.2.1 hdg hl hn e kk
  · rw [rv_nz hv] at e ⊢
    exact lv_astore X.1 X.2.1 hdg hl hn e kk
theorem ph_iinc {i k : Nat} {n : Int} {x v : Int32} {lv' : List (Nat × TV)} (X : CX p s m args c meth cc nL ret own D dA ad A) (hl : LH ad ls nL lv) (hdg : decode cc pc = .ok (.iinc i n, 3)) (hat : lv[k]? = some (i, iX x)) (hv : x + Int32.ofInt n = v) (hn : i < nL) (he : (i, iX v) :: lst lv i = lv')
    (kk : ∀ ls' : Array Slot, LH ad ls' nL lv' → W p l e R s m args below meth c H locs cells slots Q (F0 m (pc + 3) ls' rest)) : W p l e R s m args below meth c H locs cells slots Q (F0 m pc ls rest) := by
  have e9 : (i, Value.int v) :: (lv.map fun q => (q.1, tv ad q.2)).filter (fun q => !(q.1 == i) && !(q.1 + 1 == i && q.2.category == 2)) = lv'.map fun q => (q.1, tv ad q.2) := by rw [lst_map, ← he]; rfl
  exact lv_iinc X.1 X.2.1 hdg hl (k := k) (by rw [List.getElem?_map, hat]; rfl) hv hn e9 kk
theorem ph_dup_r {v : Nat} (X : CX p s m args c meth cc nL ret own D dA ad A) (hdg : decode cc pc = .ok (.dup, 1)) (kk : W p l e R s m args below meth c H locs cells slots Q (F0 m (pc + 1) ls (rv ad v :: rv ad v :: rest))) : W p l e R s m args below meth c H locs cells slots Q (F0 m pc ls (rv ad v :: rest)) := lv_dup X.1 X.2.1 hdg rv_cat kk
theorem ph_pop_r {v : Nat} (X : CX p s m args c meth cc nL ret own D dA ad A) (hdg : decode cc pc = .ok (.pop, 1)) (kk : W p l e R s m args below meth c H locs cells slots Q (F0 m (pc + 1) ls rest)) : W p l e R s m args below meth c H locs cells slots Q (F0 m pc ls (rv ad v :: rest)) := lv_pop X.1 X.2.1 hdg rv_cat kk
theorem ph_dup2_ir {v : Nat} {x : Int32} (X : CX p s m args c meth cc nL ret own D dA ad A) (hdg : decode cc pc = .ok (.dup2, 1)) (kk : W p l e R s m args below meth c H locs cells slots Q (F0 m (pc + 1) ls (.int x :: rv ad v :: .int x :: rv ad v :: rest))) : W p l e R s m args below meth c H locs cells slots Q (F0 m pc ls (.int x :: rv ad v :: rest)) := lv_dup2_11 X.1 X.2.1 hdg rfl rv_cat kk
end ROWS
