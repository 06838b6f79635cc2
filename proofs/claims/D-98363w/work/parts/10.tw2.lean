set_option maxRecDepth 100000
def sLn (sp : Nat) : Nat := strLen.getD ((sp - 1) / 2) 0
def sLen (sp : Nat) : Int32 := nI (sLn sp)
def sCh (sp k : Nat) : Int32 := (strByt.getD ((sp - 1) / 2) []).getD k 0
def isStr (sp : Nat) : Prop := ∃ i, i < 30 ∧ sp = 1 + 2 * i
theorem vin {i : Int32} {n : Nat} (h : ¬ (i < 0 ∨ n ≤ i.toNatClampNeg)) : vp_in i n := h
theorem ts_cases (x : Int32) (lo : Int) (n : Nat) : (∃ j : Nat, j < n ∧ x = Int32.ofInt (lo + j)) ∨ (x.toInt < lo ∨ lo + n - 1 < x.toInt) := by
  by_cases h : x.toInt < lo ∨ lo + n - 1 < x.toInt
  · exact Or.inr h
  · refine Or.inl ⟨(x.toInt - lo).toNat, by omega, ?_⟩
    rw [show lo + ((x.toInt - lo).toNat : Nat) = x.toInt by omega]
    exact (Int32.ofInt_toInt x).symm
theorem ts_lt7 {j : Nat} (h : j < 7) : j = 0 ∨ j = 1 ∨ j = 2 ∨ j = 3 ∨ j = 4 ∨ j = 5 ∨ j = 6 := by omega
theorem ts_lt8 {j : Nat} (h : j < 8) : j = 0 ∨ j = 1 ∨ j = 2 ∨ j = 3 ∨ j = 4 ∨ j = 5 ∨ j = 6 ∨ j = 7 := by omega
theorem ts_lt9 {j : Nat} (h : j < 9) : j = 0 ∨ j = 1 ∨ j = 2 ∨ j = 3 ∨ j = 4 ∨ j = 5 ∨ j = 6 ∨ j = 7 ∨ j = 8 := by omega
theorem ts_lt14 {j : Nat} (h : j < 14) : j = 0 ∨ j = 1 ∨ j = 2 ∨ j = 3 ∨ j = 4 ∨ j = 5 ∨ j = 6 ∨ j = 7 ∨ j = 8 ∨ j = 9 ∨ j = 10 ∨ j = 11 ∨ j = 12 ∨ j = 13 := by omega
theorem ts_lt17 {j : Nat} (h : j < 17) : j = 0 ∨ j = 1 ∨ j = 2 ∨ j = 3 ∨ j = 4 ∨ j = 5 ∨ j = 6 ∨ j = 7 ∨ j = 8 ∨ j = 9 ∨ j = 10 ∨ j = 11 ∨ j = 12 ∨ j = 13 ∨ j = 14 ∨ j = 15 ∨ j = 16 := by omega
theorem ts_lt24 {j : Nat} (h : j < 24) : j = 0 ∨ j = 1 ∨ j = 2 ∨ j = 3 ∨ j = 4 ∨ j = 5 ∨ j = 6 ∨ j = 7 ∨ j = 8 ∨ j = 9 ∨ j = 10 ∨ j = 11 ∨ j = 12 ∨ j = 13 ∨ j = 14 ∨ j = 15 ∨ j = 16 ∨ j = 17 ∨ j = 18 ∨ j = 19 ∨ j = 20 ∨ j = 21 ∨ j = 22 ∨ j = 23 := by omega
theorem ts_lt31 {j : Nat} (h : j < 31) : j = 0 ∨ j = 1 ∨ j = 2 ∨ j = 3 ∨ j = 4 ∨ j = 5 ∨ j = 6 ∨ j = 7 ∨ j = 8 ∨ j = 9 ∨ j = 10 ∨ j = 11 ∨ j = 12 ∨ j = 13 ∨ j = 14 ∨ j = 15 ∨ j = 16 ∨ j = 17 ∨ j = 18 ∨ j = 19 ∨ j = 20 ∨ j = 21 ∨ j = 22 ∨ j = 23 ∨ j = 24 ∨ j = 25 ∨ j = 26 ∨ j = 27 ∨ j = 28 ∨ j = 29 ∨ j = 30 := by omega
theorem ts_lt32 {j : Nat} (h : j < 32) : j = 0 ∨ j = 1 ∨ j = 2 ∨ j = 3 ∨ j = 4 ∨ j = 5 ∨ j = 6 ∨ j = 7 ∨ j = 8 ∨ j = 9 ∨ j = 10 ∨ j = 11 ∨ j = 12 ∨ j = 13 ∨ j = 14 ∨ j = 15 ∨ j = 16 ∨ j = 17 ∨ j = 18 ∨ j = 19 ∨ j = 20 ∨ j = 21 ∨ j = 22 ∨ j = 23 ∨ j = 24 ∨ j = 25 ∨ j = 26 ∨ j = 27 ∨ j = 28 ∨ j = 29 ∨ j = 30 ∨ j = 31 := by omega
section TROWS2
variable {p : Program} {l : Launch} {e : Env} {R : Room} {s : State} {m : MethodId} {args : Array Value} {below : List Frame} {meth : Method} {c : Code} {H : Heap} {locs : List Loc} {cells slots : Nat} {Q : State → Prop}
variable {cc : ByteArray} {nL pc : Nat} {ret : Option FieldType} {ls : Array Slot} {rest : List Value} {D : va_G} {dA : Nat → ClassId} {ad : Nat → Nat} {A : Nat → Prop} {h : HT} {own : String} {pl : Nat} {lv : List (Nat × TV)}
variable {σ : S}
theorem tK_lo {a : Nat} (h : tK a = 100) : 200 + (a - 200) = a := by
  unfold tK at h
  by_cases h1 : a < 200
  · rw [if_pos h1] at h
    have := roK_spec a
    omega
  · omega
theorem tw_aldd {v k : Nat} {i : Int32} (X : CX p s m args c meth cc nL ret own D dA ad A) (hP : PW D dA A s.heap ad (TH σ) H locs) (hk : tK v = 100) (hin : vp_in i (tL v)) (hi : i.toNatClampNeg = k) (hdg : decode cc pc = .ok (.iaload, 1))
    (kk : W p l e R s m args below meth c H locs cells slots Q (F0 m (pc + 1) ls (.int (σ (v - 200) k) :: rest))) : W p l e R s m args below meth c H locs cells slots Q (F0 m pc ls (.int i :: rv ad v :: rest)) := tw_ald (v - 200) X hP hin hi hdg kk (tK_lo hk) hk rfl
theorem tw_astd {v k : Nat} {i x : Int32} {P : S → Prop} (X : CX p s m args c meth cc nL ret own D dA ad A) (hP : PW D dA A s.heap ad (TH σ) H locs) (hk : tK v = 100) (hin : vp_in i (tL v)) (hi : i.toNatClampNeg = k) (hdg : decode cc pc = .ok (.iastore, 1)) (hF : ∀ σ', σ' = up2 σ (v - 200) k x → P σ')
    (kk : ∀ (H1 : Heap) (locs1 : List Loc) (σ' : S), PW D dA A s.heap ad (TH σ') H1 locs1 → P σ' → W p l e R s m args below meth c H1 locs1 cells slots Q (F0 m (pc + 1) ls rest)) : W p l e R s m args below meth c H locs cells slots Q (F0 m pc ls (.int x :: .int i :: rv ad v :: rest)) := tw_ast (v - 200) X hP hin hi hdg hF kk (tK_lo hk) hk rfl
theorem ph_ldcS {i index : Nat} {tx : String} (X : CX p s m args c meth cc nL ret own D dA ad A) (hm : (own, index, tx, i) ∈ SR) (hdg : decode cc pc = .ok (.ldc index, 2)) (kk : W p l e R s m args below meth c H locs cells slots Q (F0 m (pc + 2) ls (rv ad (1 + 2 * i) :: rest))) : W p l e R s m args below meth c H locs cells slots Q (F0 m pc ls rest) := by
  rw [rv_nz (by omega)] at kk
  exact va_ldcS X.1 X.2.1 X.2.2.2.1 (X.2.2.2.2.2.2.1.2.2.2.1 _ hm) hdg kk
theorem ldcSwX {T : State} (X : Stand p l e R s m args below meth c T locs cells slots) (hexec : p.tables.exec = Jvm.exec) {text : String} {index : Nat} {a : Addr} (hown : s.vm.findClass own = some m.cls)
    (hconst : (Cond.stringRef own index text).before args s = true) (hev : (Term.string own index).eval args s none [] s = some (.ref a)) {g : JFrame} (hg : g.method = m) (hdg : decode c.code g.pc = .ok (.ldc_w index, 3)) :
    ∀ target, Steps p.tables e below (T.setTop { g with pc := g.pc + 3, stack := .ref a :: g.stack }) target → Steps p.tables e below (T.setTop g) target := by
  obtain ⟨k, cf, i, a', hk, hcf, hcp, -, hr, hev'⟩ := Cond.stringRef_spec hown hconst
  cases hev.symm.trans hev'
  obtain ⟨k', hk', he⟩ := X.warmed.alike.2.2 _ _ hk
  have hr' : k'.resolved[index]? = some (some (.string a)) := by
    rcases X.warmed.entry hk hk' index with h | ⟨h, -⟩
    · rw [h]; exact hr
    · rw [hr] at h; cases h
  intro target hrest
  subst hg
  jvm_step X.here [hexec, hdg, ldc_w.wp_string (e := e) (s := T) (f := g) X.here.top hk' (by rw [he]; exact hcf) hcp hr']
  exact hrest
theorem ph_ldcSw {i index : Nat} {tx : String} (X : CX p s m args c meth cc nL ret own D dA ad A) (hm : (own, index, tx, i) ∈ SR) (hdg : decode cc pc = .ok (.ldc_w index, 3)) (kk : W p l e R s m args below meth c H locs cells slots Q (F0 m (pc + 3) ls (rv ad (1 + 2 * i) :: rest))) : W p l e R s m args below meth c H locs cells slots Q (F0 m pc ls rest) := by
  rw [rv_nz (by omega)] at kk
  have hZ := X.2.2.2.2.2.2.1.2.2.2.1 _ hm
  intro T hT Y
  obtain ⟨t, a1, b1⟩ := kk T hT Y
  exact ⟨t, ldcSwX Y X.1 X.2.2.2.1 hZ.1 hZ.2 (g := F0 m pc ls rest) rfl (by rw [X.2.1]; exact hdg) t a1, b1⟩
end TROWS2
