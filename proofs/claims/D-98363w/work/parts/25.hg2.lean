set_option maxRecDepth 100000
theorem acw : nativeFrameWords "java/lang/System" "arraycopy" 5 + 11 ≤ 40 := by decide +kernel
def isStrP (g : GT) (v : Nat) : Prop := gK g v = 20 ∨ (v < 200 ∧ gK g v = 1000)
def isBytP (g : GT) (v : Nat) : Prop := gK g v = 101 ∨ (v < 200 ∧ gK g v = 1001)
theorem roK_str {v : Nat} (h : roK v = 1000) : ∃ i, i < 30 ∧ v = 1 + 2 * i := by
  unfold roK at h
  refine ⟨(v - 1) / 2, ?_⟩
  repeat' split at h
  all_goals omega
theorem roK_byt {v : Nat} (h : roK v = 1001) : ∃ i, i < 30 ∧ v = 2 + 2 * i := by
  unfold roK at h
  refine ⟨(v - 2) / 2, ?_⟩
  repeat' split at h
  all_goals omega
section HG2
variable {p : Program} {l : Launch} {e : Env} {R : Room} {s : State} {m : MethodId} {args : Array Value} {below : List Frame} {meth : Method} {c : Code} {H : Heap} {locs : List Loc} {cells slots : Nat} {Q : State → Prop}
variable {cc : ByteArray} {nL pc : Nat} {ret : Option FieldType} {ls : Array Slot} {rest : List Value} {D : va_G} {dA : Nat → ClassId} {ad : Nat → Nat} {A : Nat → Prop} {h : HT} {own : String} {pl : Nat} {lv : List (Nat × TV)}
variable {g g0 : GT} {ι : S} {st0 : List Value} {ad0 : Nat → Nat} {mc ms : Nat}
theorem str_c (hP : PW D dA A s.heap ad (HS g ι) H locs) {v : Nat} (h1 : v < 200) (h2 : gK g v = 1000) : ∃ i, i < 30 ∧ v = 1 + 2 * i ∧ gR g v = roR v ∧ ι v = roI v := by
  obtain ⟨a1, a2, a3, a4⟩ := hP.2.2.2.1 v h1
  obtain ⟨i, hi, e⟩ := roK_str (v := v) (a1.symm.trans h2)
  exact ⟨i, hi, e, a4, a3⟩
theorem byt_c (hP : PW D dA A s.heap ad (HS g ι) H locs) {v : Nat} (h1 : v < 200) (h2 : gK g v = 1001) : ∃ i, i < 30 ∧ v = 2 + 2 * i ∧ gL g v = roL v ∧ ι v = roI v := by
  obtain ⟨a1, a2, a3, a4⟩ := hP.2.2.2.1 v h1
  obtain ⟨i, hi, e⟩ := roK_byt (v := v) (a1.symm.trans h2)
  exact ⟨i, hi, e, a2, a3⟩
theorem str_nz (hP : PW D dA A s.heap ad (HS g ι) H locs) (hk : isStrP g pl) : pl ≠ 0 := by
  rcases hk with h | ⟨h1, h2⟩
  · exact cg_nz hP (ci := 19) h (by decide)
  · obtain ⟨i, hi, e, -, -⟩ := str_c hP h1 h2
    omega
theorem byt_nz (hP : PW D dA A s.heap ad (HS g ι) H locs) (hk : isBytP g pl) : pl ≠ 0 := by
  rcases hk with h | ⟨h1, h2⟩
  · exact pl_nz hP.2.2.2 (pl := pl) (ci := 101) h (by omega) (by omega)
  · obtain ⟨i, hi, e, -, -⟩ := byt_c hP h1 h2
    omega
theorem str_recv (X : CX p s m args c meth cc nL ret own D dA ad A) (hP : PW D dA A s.heap ad (HS g ι) H locs) (hk : isStrP g pl) : ∃ cell : Cell, H[ad pl]? = some cell ∧ cell.vm.isStatics = false ∧ s.vm.findClass "java/lang/String" = some cell.cls := by
  rcases hk with h | ⟨h1, h2⟩
  · exact ph_recv (ci := 19) X hP h (by decide) rfl
  · obtain ⟨i, hi, rfl, -, -⟩ := str_c hP h1 h2
    exact vk_recv (adK := fun i => ad (1 + 2 * i)) X.2.2.2.2.2.2.1.2.2.1 hi hP.2.2.1
theorem str_inj (X : CX p s m args c meth cc nL ret own D dA ad A) (hP : PW D dA A s.heap ad (HS g ι) H locs) {a b : Nat} (ha : isStrP g a) (hb : isStrP g b) (e : ad a = ad b) : a = b := by
  have made : ∀ v : Nat, gK g v = 20 → A (ad v) ∧ 200 ≤ v ∧ (PL dA ad (HS g ι))[v - 200]? = some (ad v, entv dA ad (HS g ι) v) := fun v h => by
    obtain ⟨h0, h1⟩ := wfh_live hP.2.2.2 (p := v) (c := 20) h (by omega) (by omega)
    have h3 := PL_get (dA := dA) (ad := ad) h0 h1
    exact ⟨hP.2.1.2 _ _ h3, h0, h3⟩
  have con : ∀ i : Nat, i < 30 → ¬ A (ad (1 + 2 * i)) := fun i hi => by
    obtain ⟨⟨cell, -, -, -, h⟩, -⟩ := X.2.2.2.2.2.2.1.2.2.1.1 i hi
    exact h
  rcases ha with h | ⟨h1, h2⟩
  · obtain ⟨q1, q2, q3⟩ := made a h
    rcases hb with k | ⟨k1, k2⟩
    · obtain ⟨r1, r2, r3⟩ := made b k
      have := hP.2.1.1 _ _ _ _ q3 r3 e
      omega
    · obtain ⟨j, hj, rfl, -, -⟩ := str_c hP k1 k2
      exact absurd (e ▸ q1) (con j hj)
  · obtain ⟨i, hi, rfl, -, -⟩ := str_c hP h1 h2
    rcases hb with k | ⟨k1, k2⟩
    · obtain ⟨r1, r2, r3⟩ := made b k
      exact absurd (e.symm ▸ r1) (con i hi)
    · obtain ⟨j, hj, rfl, -, -⟩ := str_c hP k1 k2
      have := X.2.2.2.2.2.2.1.2.2.1.2 i j hi hj e
      omega
theorem cg_strV {index : Nat} (X : CX p s m args c meth cc nL ret own D dA ad A) (hP : PW D dA A s.heap ad (HS g ι) H locs) (hk : isStrP g pl) (hlink : Cond.fieldLink own index "java/lang/String" "value" "[B" ∈ lw_all) (hdg : decode cc pc = .ok (.getfield index, 3))
    (kk : W p l e R s m args below meth c H locs cells slots Q (F0 m (pc + 3) ls (rv ad (gR g pl 0) :: rest))) : W p l e R s m args below meth c H locs cells slots Q (F0 m pc ls (rv ad pl :: rest)) := by
  rcases hk with h | ⟨h1, h2⟩
  · exact cg_getr 19 0 X in_J9 hP h hlink hdg kk
  · obtain ⟨i, hi, rfl, hr, -⟩ := str_c hP h1 h2
    have e : gR g (1 + 2 * i) 0 = 2 + 2 * i := by
      rw [hr]
      unfold roR
      rw [if_pos (by omega), if_pos (by omega), if_pos rfl]
      omega
    rw [e, rv_nz (by omega)] at kk
    rw [rv_nz (by omega)]
    exact vk_getf X.1 X.2.1 (X.2.2.2.2.2.2.1.2.2.1.1 i hi).2.2.1 hP.2.2.1 X.2.2.2.1 (X.2.2.2.2.1 _ hlink) (fun _ q => q) hdg kk
theorem cg_strC {index : Nat} (X : CX p s m args c meth cc nL ret own D dA ad A) (hP : PW D dA A s.heap ad (HS g ι) H locs) (hk : isStrP g pl) (hlink : Cond.fieldLink own index "java/lang/String" "coder" "B" ∈ lw_all) (hdg : decode cc pc = .ok (.getfield index, 3))
    (kk : W p l e R s m args below meth c H locs cells slots Q (F0 m (pc + 3) ls (.int (ι pl 1) :: rest))) : W p l e R s m args below meth c H locs cells slots Q (F0 m pc ls (rv ad pl :: rest)) := by
  rcases hk with h | ⟨h1, h2⟩
  · exact cg_geti 19 1 X in_J9 hP h hlink hdg kk
  · obtain ⟨i, hi, rfl, -, hr⟩ := str_c hP h1 h2
    have e : ι (1 + 2 * i) 1 = 0 := by
      rw [hr]
      unfold roI
      rw [if_pos (by omega), if_pos (by omega)]
    rw [e] at kk
    rw [rv_nz (by omega)]
    exact vk_getf X.1 X.2.1 (X.2.2.2.2.2.2.1.2.2.1.1 i hi).2.1 hP.2.2.1 X.2.2.2.1 (X.2.2.2.2.1 _ hlink) (fun _ q => q) hdg kk
theorem str_val (hP : PW D dA A s.heap ad (HS g ι) H locs) (hk : isStrP g pl) (hb : gK g pl = 20 → gK g (gR g pl 0) = 101) : isBytP g (gR g pl 0) := by
  rcases hk with h | ⟨h1, h2⟩
  · exact Or.inl (hb h)
  · obtain ⟨i, hi, rfl, hr, -⟩ := str_c hP h1 h2
    have e : gR g (1 + 2 * i) 0 = 2 + 2 * i := by
      rw [hr]
      unfold roR
      rw [if_pos (by omega), if_pos (by omega), if_pos rfl]
      omega
    rw [e]
    refine Or.inr ⟨by omega, ?_⟩
    have := (hP.2.2.2.1 (2 + 2 * i) (by omega)).1
    refine (show gK g (2 + 2 * i) = roK (2 + 2 * i) from this).trans ?_
    unfold roK
    rw [if_pos (by omega), if_neg (by omega)]
theorem cg_bytald {i : Int32} {k : Nat} (X : CX p s m args c meth cc nL ret own D dA ad A) (hP : PW D dA A s.heap ad (HS g ι) H locs) (hk : isBytP g pl) (hin : vp_in i (gL g pl)) (hi : i.toNatClampNeg = k) (hdg : decode cc pc = .ok (.baload, 1))
    (kk : W p l e R s m args below meth c H locs cells slots Q (F0 m (pc + 1) ls (.int (ι pl k) :: rest))) : W p l e R s m args below meth c H locs cells slots Q (F0 m pc ls (.int i :: rv ad pl :: rest)) := by
  rcases hk with h | ⟨h1, h2⟩
  · exact cg_bald X hP h hin hi hdg kk
  · obtain ⟨j, hj, rfl, hl, hr⟩ := byt_c hP h1 h2
    subst hi
    have e : gL g (2 + 2 * j) = strLen.getD j 0 := by
      rw [hl]
      unfold roL
      rw [if_pos (by omega), show (2 + 2 * j - 1) / 2 = j by omega]
    have e2 : ∀ k, ι (2 + 2 * j) k = (strByt.getD j []).getD k 0 := by
      intro k
      rw [hr]
      unfold roI
      rw [if_pos (by omega), if_neg (by omega), show (2 + 2 * j - 1) / 2 = j by omega]
    rw [e] at hin
    rw [rv_nz (by omega)]
    exact va_tb X.1 X.2.1 (X.2.2.2.2.2.2.1.2.2.1.1 j hj).2.2.2 hP.2.2.1 hin (by rw [e2]) hdg kk
theorem cg_bytlen (X : CX p s m args c meth cc nL ret own D dA ad A) (hP : PW D dA A s.heap ad (HS g ι) H locs) (hk : isBytP g pl) (hdg : decode cc pc = .ok (.arraylength, 1))
    (kk : W p l e R s m args below meth c H locs cells slots Q (F0 m (pc + 1) ls (.int (nI (gL g pl)) :: rest))) : W p l e R s m args below meth c H locs cells slots Q (F0 m pc ls (rv ad pl :: rest)) := by
  rcases hk with h | ⟨h1, h2⟩
  · exact cg_alenB X hP h hdg kk
  · obtain ⟨j, hj, rfl, hl, hr⟩ := byt_c hP h1 h2
    have e : gL g (2 + 2 * j) = strLen.getD j 0 := by
      rw [hl]
      unfold roL
      rw [if_pos (by omega), show (2 + 2 * j - 1) / 2 = j by omega]
    rw [rv_nz (by omega)]
    exact va_tlen X.1 X.2.1 (X.2.2.2.2.2.2.1.2.2.1.1 j hj).2.2.2 hP.2.2.1 (by rw [e]; rfl) hdg kk
theorem cg_getsC {index : Nat} (X : CX p s m args c meth cc nL ret own D dA ad A) (hP : PW D dA A s.heap ad (HS g ι) H locs) (hlink : Cond.fieldLink own index "java/lang/String" "COMPACT_STRINGS" "Z" ∈ lw_all) (hdg : decode cc pc = .ok (.getstatic index, 3))
    (kk : W p l e R s m args below meth c H locs cells slots Q (F0 m (pc + 3) ls (.int 1 :: rest))) : W p l e R s m args below meth c H locs cells slots Q (F0 m pc ls rest) := va_gets X.1 X.2.1 X.2.2.2.2.2.2.1.2.2.2.2.2.2.2.2.1 hP.2.2.1 X.2.2.2.1 (X.2.2.2.2.1 _ hlink) (fun _ q => q) hdg kk
theorem cg_getsF {index : Nat} (X : CX p s m args c meth cc nL ret own D dA ad A) (hP : PW D dA A s.heap ad (HS g ι) H locs) (hlink : Cond.fieldLink own index "jdk/internal/util/Preconditions" "SIOOBE_FORMATTER" "Ljava/util/function/BiFunction;" ∈ lw_all) (hdg : decode cc pc = .ok (.getstatic index, 3))
    (kk : ∀ w, (w = 0 ∨ w = 131) → W p l e R s m args below meth c H locs cells slots Q (F0 m (pc + 3) ls (rv ad w :: rest))) : W p l e R s m args below meth c H locs cells slots Q (F0 m pc ls rest) := by
  obtain ⟨w, hw, hz⟩ := X.2.2.2.2.2.2.1.2.2.2.2.2.2.2.2.2.2.2.2.2.2.1
  exact va_gets X.1 X.2.1 hz hP.2.2.1 X.2.2.2.1 (X.2.2.2.2.1 _ hlink) (fun _ q => q) hdg (kk w hw)
theorem cg_getsA {index : Nat} (X : CX p s m args c meth cc nL ret own D dA ad A) (hP : PW D dA A s.heap ad (HS g ι) H locs) (hlink : Cond.fieldLink own index "SpoonRow$Value" "$VALUES" "[LSpoonRow$Value;" ∈ lw_all) (hdg : decode cc pc = .ok (.getstatic index, 3))
    (kk : W p l e R s m args below meth c H locs cells slots Q (F0 m (pc + 3) ls (rv ad 120 :: rest))) : W p l e R s m args below meth c H locs cells slots Q (F0 m pc ls rest) := by
  rw [rv_nz (by omega)] at kk
  exact va_gets X.1 X.2.1 X.2.2.2.2.2.2.1.2.2.2.2.2.2.1 hP.2.2.1 X.2.2.2.1 (X.2.2.2.2.1 _ hlink) (fun _ q => q) hdg kk
theorem cg_ldcM {index : Nat} (X : CX p s m args c meth cc nL ret own D dA ad A) (hlink : Cond.classLink own index "[Ljava/lang/Object;" ∈ lw_all) (hdg : decode cc pc = .ok (.ldc index, 2))
    (kk : W p l e R s m args below meth c H locs cells slots Q (F0 m (pc + 2) ls (rv ad 130 :: rest))) : W p l e R s m args below meth c H locs cells slots Q (F0 m pc ls rest) := by
  rw [rv_nz (by omega)] at kk
  exact va_ldcM X.1 X.2.1 X.2.2.2.1 (X.2.2.2.2.1 _ hlink) X.2.2.2.2.2.2.1.2.2.2.2.2.2.2.2.2.2.2.2.1 hdg kk
theorem nmO110 (X : CX p s m args c meth cc nL ret own D dA ad A) : s.vm.findClass "[Ljava/lang/Object;" = some (dA 110) := va_nmO (C := "java/lang/Object") (X.2.2.2.2.2.2.1.1.2 3 (dA 110, .object "java/lang/Object") rfl).2 (by decide +kernel)
theorem nmO112 (X : CX p s m args c meth cc nL ret own D dA ad A) : s.vm.findClass "[LSpoonRow$Value;" = some (dA 112) := va_nmO (C := "SpoonRow$Value") (X.2.2.2.2.2.2.1.1.2 5 (dA 112, .object "SpoonRow$Value") rfl).2 (by decide +kernel)
theorem nmO101 (X : CX p s m args c meth cc nL ret own D dA ad A) : s.vm.findClass "[B" = some (dA 101) := va_nm_byte (X.2.2.2.2.2.2.1.1.2 1 (dA 101, .byte) rfl).2
theorem cg_castA110 {index : Nat} (X : CX p s m args c meth cc nL ret own D dA ad A) (hP : PW D dA A s.heap ad (HS g ι) H locs) (hk : gK g pl = 110) (hlink : Cond.classLink own index "[Ljava/lang/Object;" ∈ lw_all) (hdg : decode cc pc = .ok (.checkcast index, 3))
    (kk : W p l e R s m args below meth c H locs cells slots Q (F0 m (pc + 3) ls (rv ad pl :: rest))) : W p l e R s m args below meth c H locs cells slots Q (F0 m pc ls (rv ad pl :: rest)) := by
  have hk : hK (HS g ι) pl = 110 := hk
  rw [rv_nz (pl_nz hP.2.2.2 hk (by omega) (by omega))] at kk ⊢
  exact va_castA X.1 X.2.1 X.2.2.2.1 (X.2.2.2.2.1 _ hlink) hP.1 (pl - 200) (ent_q hP.2.2.2 hk (by omega) (by omega)) (nmO110 X) hdg kk
theorem cg_castA112 {index : Nat} (X : CX p s m args c meth cc nL ret own D dA ad A) (hP : PW D dA A s.heap ad (HS g ι) H locs) (hk : gK g pl = 112) (hlink : Cond.classLink own index "[LSpoonRow$Value;" ∈ lw_all) (hdg : decode cc pc = .ok (.checkcast index, 3))
    (kk : W p l e R s m args below meth c H locs cells slots Q (F0 m (pc + 3) ls (rv ad pl :: rest))) : W p l e R s m args below meth c H locs cells slots Q (F0 m pc ls (rv ad pl :: rest)) := by
  have hk : hK (HS g ι) pl = 112 := hk
  rw [rv_nz (pl_nz hP.2.2.2 hk (by omega) (by omega))] at kk ⊢
  exact va_castA X.1 X.2.1 X.2.2.2.1 (X.2.2.2.2.1 _ hlink) hP.1 (pl - 200) (ent_q hP.2.2.2 hk (by omega) (by omega)) (nmO112 X) hdg kk
theorem cg_castA101 {index : Nat} (X : CX p s m args c meth cc nL ret own D dA ad A) (hP : PW D dA A s.heap ad (HS g ι) H locs) (hk : gK g pl = 101) (hlink : Cond.classLink own index "[B" ∈ lw_all) (hdg : decode cc pc = .ok (.checkcast index, 3))
    (kk : W p l e R s m args below meth c H locs cells slots Q (F0 m (pc + 3) ls (rv ad pl :: rest))) : W p l e R s m args below meth c H locs cells slots Q (F0 m pc ls (rv ad pl :: rest)) := by
  have hk : hK (HS g ι) pl = 101 := hk
  rw [rv_nz (pl_nz hP.2.2.2 hk (by omega) (by omega))] at kk ⊢
  exact va_castA X.1 X.2.1 X.2.2.2.1 (X.2.2.2.2.1 _ hlink) hP.1 (pl - 200) (ent_a hP.2.2.2 hk (by omega) (by omega)) (nmO101 X) hdg kk
theorem cg_getCl {index : Nat} (X : CX p s m args c meth cc nL ret own D dA ad A) (hP : PW D dA A s.heap ad (HS g ι) H locs) (hl : LH ad ls nL lv) (hk : gK g pl = 110) (hlink : Cond.methodLink own index ⟨"java/lang/Object", "getClass", "()Ljava/lang/Class;"⟩ ∈ lw_all) (hdecl : Cond.declares ⟨"java/lang/Object", "getClass", "()Ljava/lang/Class;"⟩ ∈ lw_tbl) (hsel : Cond.selects "[Ljava/lang/Object;" ⟨"java/lang/Object", "getClass", "()Ljava/lang/Class;"⟩ ⟨"java/lang/Object", "getClass", "()Ljava/lang/Class;"⟩ ∈ lw_all) (hinst : Cond.instanceMethod ⟨"java/lang/Object", "getClass", "()Ljava/lang/Class;"⟩ ∈ lw_all) (hnat : Cond.native ⟨"java/lang/Object", "getClass", "()Ljava/lang/Class;"⟩ ∈ lw_all) {k8 : Nat} (hrest : (rest.map fun v => v.category).sum ≤ k8) (h8 : k8 ≤ 8) (hR : 1 ≤ R.frames ∧ 30 ≤ R.locals) (hdg : decode cc pc = .ok (.invokevirtual index, 3))
    (kk : W p l e R s m args below meth c H locs cells slots Q (F0 m (pc + 3) ls (rv ad 130 :: rest))) : W p l e R s m args below meth c H locs cells slots Q (F0 m pc ls (rv ad pl :: rest)) := by
  have hk : hK (HS g ι) pl = 110 := hk
  rw [rv_nz (by omega)] at kk
  rw [rv_nz (pl_nz hP.2.2.2 hk (by omega) (by omega))]
  refine va_getC X.1 X.2.1 (X.2.2.1.trans hl.1.symm) (C := "[Ljava/lang/Object;") X.2.2.2.1 (X.2.2.2.2.1 _ hlink) (va_Nw.use rfl (X.2.2.2.2.2.2.1.2.1 _ hdecl rfl)) (X.2.2.2.2.1 _ hsel) (X.2.2.2.2.1 _ hinst) (X.2.2.2.2.1 _ hnat) X.2.2.2.2.2.2.1.2.2.2.2.2.2.2.2.2.2.2.2.1 ⟨_, hP.1 (pl - 200) _ (ent_q hP.2.2.2 hk (by omega) (by omega)), rfl, nmO110 X⟩ hR.1 (by omega) hdg kk
theorem cg_instStr {index : Nat} (X : CX p s m args c meth cc nL ret own D dA ad A) (hP : PW D dA A s.heap ad (HS g ι) H locs) (hk : isStrP g pl) (hlink : Cond.classLink own index "java/lang/String" ∈ lw_all) (hdg : decode cc pc = .ok (.instanceof index, 3))
    (kk : W p l e R s m args below meth c H locs cells slots Q (F0 m (pc + 3) ls (.int 1 :: rest))) : W p l e R s m args below meth c H locs cells slots Q (F0 m pc ls (rv ad pl :: rest)) := by
  rw [rv_nz (str_nz hP hk)]
  exact va_instS X.1 X.2.1 X.2.2.2.1 (X.2.2.2.2.1 _ hlink) (X.2.2.2.2.2.2.1.1.1 19 _ rfl).2 (str_recv X hP hk) hdg kk
theorem cg_castStr {index : Nat} (X : CX p s m args c meth cc nL ret own D dA ad A) (hP : PW D dA A s.heap ad (HS g ι) H locs) (hk : isStrP g pl) (hlink : Cond.classLink own index "java/lang/String" ∈ lw_all) (hdg : decode cc pc = .ok (.checkcast index, 3))
    (kk : W p l e R s m args below meth c H locs cells slots Q (F0 m (pc + 3) ls (rv ad pl :: rest))) : W p l e R s m args below meth c H locs cells slots Q (F0 m pc ls (rv ad pl :: rest)) := by
  rw [rv_nz (str_nz hP hk)] at kk ⊢
  exact va_castS X.1 X.2.1 X.2.2.2.1 (X.2.2.2.2.1 _ hlink) (X.2.2.2.2.2.2.1.1.1 19 _ rfl).2 (str_recv X hP hk) hdg kk
theorem sort_inj (X : CX p s m args c meth cc nL ret own D dA ad A) {a b : Nat} (ha : 100 ≤ a ∧ a < 105) (hb : 100 ≤ b ∧ b < 105) (e : ad a = ad b) : a = b := by
  have := X.2.2.2.2.2.2.1.2.2.2.2.1.2 (a - 100) (b - 100) (show a - 100 < 5 by omega) (show b - 100 < 5 by omega) (by show ad (100 + (a - 100)) = ad (100 + (b - 100)); rw [show 100 + (a - 100) = a by omega, show 100 + (b - 100) = b by omega]; exact e)
  omega
theorem ro_inj {a b : Nat} (ha : a ≠ 0) (hb : b ≠ 0) (hi : ad a = ad b → a = b) : ro ad a = ro ad b ↔ a = b := by
  unfold ro
  rw [if_neg ha, if_neg hb]
  constructor
  · intro h
    exact hi (Option.some.inj h)
  · intro h
    rw [h]
theorem cg_acmp_eq {a b : Nat} {off : Int} {tgt : Nat} (X : CX p s m args c meth cc nL ret own D dA ad A) (ha : a ≠ 0) (hb : b ≠ 0) (hi : ad a = ad b → a = b) (hdg : decode cc pc = .ok (.if_acmp .eq off, 3)) (ht : (pc : Int) + off = (tgt : Int))
    (kt : a = b → W p l e R s m args below meth c H locs cells slots Q (F0 m tgt ls rest)) (kf : ¬ a = b → W p l e R s m args below meth c H locs cells slots Q (F0 m (pc + 3) ls rest)) : W p l e R s m args below meth c H locs cells slots Q (F0 m pc ls (rv ad b :: rv ad a :: rest)) :=
  lv_acmp_eq X.1 X.2.1 hdg ht (fun h => kt ((ro_inj ha hb hi).mp h)) (fun h => kf (fun e => h ((ro_inj ha hb hi).mpr e)))
theorem cg_acmp_ne {a b : Nat} {off : Int} {tgt : Nat} (X : CX p s m args c meth cc nL ret own D dA ad A) (ha : a ≠ 0) (hb : b ≠ 0) (hi : ad a = ad b → a = b) (hdg : decode cc pc = .ok (.if_acmp .ne off, 3)) (ht : (pc : Int) + off = (tgt : Int))
    (kt : ¬ a = b → W p l e R s m args below meth c H locs cells slots Q (F0 m tgt ls rest)) (kf : a = b → W p l e R s m args below meth c H locs cells slots Q (F0 m (pc + 3) ls rest)) : W p l e R s m args below meth c H locs cells slots Q (F0 m pc ls (rv ad b :: rv ad a :: rest)) :=
  lv_acmp_ne X.1 X.2.1 hdg ht (fun h => kt (fun e => h ((ro_inj ha hb hi).mpr e))) (fun h => kf ((ro_inj ha hb hi).mp h))
theorem ph_dup_x1_ri {v : Nat} {x : Int32} (X : CX p s m args c meth cc nL ret own D dA ad A) (hdg : decode cc pc = .ok (.dup_x1, 1)) (kk : W p l e R s m args below meth c H locs cells slots Q (F0 m (pc + 1) ls (.int x :: rv ad v :: .int x :: rest))) : W p l e R s m args below meth c H locs cells slots Q (F0 m pc ls (.int x :: rv ad v :: rest)) := lv_dup_x1 X.1 X.2.1 hdg rfl rv_cat kk
theorem ph_dup_x1_rr {v x : Nat} (X : CX p s m args c meth cc nL ret own D dA ad A) (hdg : decode cc pc = .ok (.dup_x1, 1)) (kk : W p l e R s m args below meth c H locs cells slots Q (F0 m (pc + 1) ls (rv ad x :: rv ad v :: rv ad x :: rest))) : W p l e R s m args below meth c H locs cells slots Q (F0 m pc ls (rv ad x :: rv ad v :: rest)) := lv_dup_x1 X.1 X.2.1 hdg rv_cat rv_cat kk
theorem cg_copyb {index src : Nat} {sp dp n : Int32} {a b k : Nat} {P : S → Prop} (X : CX p s m args c meth cc nL ret own D dA ad A) (hP : PW D dA A s.heap ad (HS g ι) H locs) (hl : LH ad ls nL lv) (hlink : Cond.methodLink own index arraycopyName ∈ lw_all) (hnat : Cond.native arraycopyName ∈ lw_all) (hstat : Cond.static arraycopyName ∈ lw_all) (hini : Cond.initialized "java/lang/System" ∈ lw_all) (hk0 : gK g src = 101) (hk1 : gK g pl = 101) (h1 : ¬ sp < 0) (h2 : ¬ dp < 0) (h3 : ¬ n < 0) (z1 : sp.toNatClampNeg = a) (z2 : dp.toNatClampNeg = b) (z3 : n.toNatClampNeg = k) (h4 : a + k ≤ gL g src) (h5 : b + k ≤ gL g pl) (hfit : ∀ i, i < k → fits .byte (.int (ι src (a + i))) = true) (hframes : 1 ≤ R.frames) (hlocals : (rest.map fun v => v.category).sum + (nativeFrameWords "java/lang/System" "arraycopy" 5 + 11) ≤ R.locals) (hdg : decode cc pc = .ok (.invokestatic index, 3)) (hF : ∀ ι', ι' = va_up ι pl (va_cpy (ι src) (ι pl) a b k) → P ι')
    (kk : ∀ (H1 : Heap) (locs1 : List Loc) (ι' : S), PW D dA A s.heap ad (HS g ι') H1 locs1 → P ι' → W p l e R s m args below meth c H1 locs1 cells slots Q (F0 m (pc + 3) ls rest)) : W p l e R s m args below meth c H locs cells slots Q (F0 m pc ls (.int n :: .int dp :: rv ad pl :: .int sp :: rv ad src :: rest)) := by
  subst z1; subst z2; subst z3
  have k0 : hK (HS g ι) src = 101 := hk0
  have k1 : hK (HS g ι) pl = 101 := hk1
  have e0 := rv_nz (ad := ad) (pl_nz hP.2.2.2 k0 (by omega) (by omega))
  have e1 := rv_nz (ad := ad) (pl_nz hP.2.2.2 k1 (by omega) (by omega))
  rw [e0, e1]
  exact va_copyi X.1 X.2.1 (X.2.2.1.trans hl.1.symm) X.2.2.2.1 (X.2.2.2.2.1 _ hlink) (X.2.2.2.2.1 _ hnat) (X.2.2.2.2.1 _ hstat) (X.2.2.2.2.1 _ hini) X.2.2.2.2.2.2.1.1 hP.1 hP.2.1 hP.2.2.1 (src - 200) (pl - 200) 1 1 (ent_a hP.2.2.2 k0 (by omega) (by omega)) (ent_a hP.2.2.2 k1 (by omega) (by omega)) (ty_get rfl) (ty_get rfl) rfl h1 h2 h3 h4 h5 hfit hframes hlocals hdg (fun H1 locs1 q1 q2 q3 => kk H1 locs1 _ (pw_setA hP.2.2.2 k1 (by omega) (by omega) q1 q2 q3) (hF _ rfl))
theorem elt_any (X : CX p s m args c meth cc nL ret own D dA ad A) (hP : PW D dA A s.heap ad (HS g ι) H locs) {v : Nat} (h : isElt (gK g v)) : va_Any "java/lang/Object" s H (ad v) := by
  have go : ∀ (ci : Nat) (r : vw_C), CL[ci]? = some r → ci < 99 → gK g v = ci + 1 → Cond.castable r.1 "java/lang/Object" ∈ lw_tbl → va_Any "java/lang/Object" s H (ad v) := by
    intro ci r hc hci hkv hca
    have hkv : hK (HS g ι) v = ci + 1 := hkv
    refine va_rAny X.2.2.2.2.2.2.1.1 hP.1 (ent_o hP.2.2.2 hkv hci) hc (fun comp c0 f1 f2 => ?_)
    obtain ⟨c1, t1, e1, e2, e3⟩ := Cond.castable_spec (va_Nw.use (A := args) rfl (X.2.2.2.2.2.2.1.2.1 _ hca rfl))
    cases e2.symm.trans f1
    cases e1.symm.trans f2
    exact e3
  rcases h with h | h | h | h | h
  · exact go 5 _ rfl (by decide) h q2409
  · exact go 13 _ rfl (by decide) h q2422
  · exact go 14 _ rfl (by decide) h q2420
  · exact go 15 _ rfl (by decide) h q2419
  · exact go 16 _ rfl (by decide) h q2421
theorem hg_copyq {index src : Nat} {sp dp n : Int32} {a b k : Nat} {P : GT → Prop} (X : CX p s m args c meth cc nL ret own D dA ad A) (hP : PW D dA A s.heap ad (HS g ι) H locs) (hl : LH ad ls nL lv) (hlink : Cond.methodLink own index arraycopyName ∈ lw_all) (hnat : Cond.native arraycopyName ∈ lw_all) (hstat : Cond.static arraycopyName ∈ lw_all) (hini : Cond.initialized "java/lang/System" ∈ lw_all) (hk0 : gK g src = 110) (hk1 : gK g pl = 110) (h1 : ¬ sp < 0) (h2 : ¬ dp < 0) (h3 : ¬ n < 0) (z1 : sp.toNatClampNeg = a) (z2 : dp.toNatClampNeg = b) (z3 : n.toNatClampNeg = k) (h4 : a + k ≤ gL g src) (h5 : b + k ≤ gL g pl) (hel : ∀ i, i < k → gR g src (a + i) = 0 ∨ isElt (gK g (gR g src (a + i)))) (hframes : 1 ≤ R.frames) (hlocals : (rest.map fun v => v.category).sum + (nativeFrameWords "java/lang/System" "arraycopy" 5 + 11) ≤ R.locals) (hdg : decode cc pc = .ok (.invokestatic index, 3)) (hF : ∀ g', g' = setga g pl (va_cpy (gR g src) (gR g pl) a b k) → P g')
    (kk : ∀ (H1 : Heap) (locs1 : List Loc) (g' : GT), PW D dA A s.heap ad (HS g' ι) H1 locs1 → gN g' = gN g ∧ gK g' = gK g ∧ gL g' = gL g → P g' → W p l e R s m args below meth c H1 locs1 cells slots Q (F0 m (pc + 3) ls rest)) : W p l e R s m args below meth c H locs cells slots Q (F0 m pc ls (.int n :: .int dp :: rv ad pl :: .int sp :: rv ad src :: rest)) := by
  subst z1; subst z2; subst z3
  have k0 : hK (HS g ι) src = 110 := hk0
  have k1 : hK (HS g ι) pl = 110 := hk1
  have e0 := rv_nz (ad := ad) (pl_nz hP.2.2.2 k0 (by omega) (by omega))
  have e1 := rv_nz (ad := ad) (pl_nz hP.2.2.2 k1 (by omega) (by omega))
  rw [e0, e1]
  have hcp : va_cpy (fun j => ro ad (gR g src j)) (fun j => ro ad (gR g pl j)) sp.toNatClampNeg dp.toNatClampNeg n.toNatClampNeg = fun j => ro ad (va_cpy (gR g src) (gR g pl) sp.toNatClampNeg dp.toNatClampNeg n.toNatClampNeg j) := by
    funext j
    unfold va_cpy
    split <;> rfl
  refine va_copyM X.1 X.2.1 (X.2.2.1.trans hl.1.symm) X.2.2.2.1 (X.2.2.2.2.1 _ hlink) (X.2.2.2.2.1 _ hnat) (X.2.2.2.2.1 _ hstat) (X.2.2.2.2.1 _ hini) X.2.2.2.2.2.2.1.1 hP.1 hP.2.1 hP.2.2.1 (src - 200) (pl - 200) 3 3 (ent_q hP.2.2.2 k0 (by omega) (by omega)) (ent_q hP.2.2.2 k1 (by omega) (by omega)) (ty_get rfl) (ty_get rfl) h1 h2 h3 h4 h5 (fun i hi y hy => ?_) hframes hlocals hdg (fun H1 locs1 q1 q2 q3 => ?_)
  · rcases hel i hi with h | h
    · exfalso
      have hy : ro ad (gR g src (sp.toNatClampNeg + i)) = some y := hy
      rw [h] at hy
      cases hy
    · have hy : ro ad (gR g src (sp.toNatClampNeg + i)) = some y := hy
      unfold ro at hy
      split at hy
      · cases hy
      · cases hy
        exact elt_any X hP h
  · have q1 : va_P D CL ((PL dA ad (HS g ι)).set (pl - 200) (ad pl, .inl (dA 110, hL (HS g ι) pl, .inr (.inr (.inr (.inr (va_cpy (fun j => ro ad (gR g src j)) (fun j => ro ad (gR g pl j)) sp.toNatClampNeg dp.toNatClampNeg n.toNatClampNeg))))))) H1 := q1
    have q2 : va_D A ((PL dA ad (HS g ι)).set (pl - 200) (ad pl, .inl (dA 110, hL (HS g ι) pl, .inr (.inr (.inr (.inr (va_cpy (fun j => ro ad (gR g src j)) (fun j => ro ad (gR g pl j)) sp.toNatClampNeg dp.toNatClampNeg n.toNatClampNeg))))))) := q2
    rw [hcp] at q1 q2
    exact kk H1 locs1 (setga g pl _) (pw_setQ hP.2.2.2 k1 (by omega) (by omega) (fun j => by
      unfold va_cpy
      split
      · exact gR_lt hP _ _
      · exact gR_lt hP _ _) q1 q2 q3) ⟨rfl, rfl, rfl⟩ (hF _ rfl)
theorem hg_cloneB (rs : List TV) {index : Nat} {P : GT → S → Prop} (X : CX p s m args c meth cc nL ret own D dA ad A) (hP : PW D dA A s.heap ad (HS g ι) H locs) (hA0 : HA ad0 g0 ad g) (hl : LH ad ls nL lv) (hlv : LTl (200 + gN g) lv) (hrs : LTs (200 + gN g) rs) (hk : gK g pl = 101) (hlink : Cond.methodLink own index ⟨"[B", "clone", "()Ljava/lang/Object;"⟩ ∈ lw_all) (hsame : Cond.sameMethod "[B" "java/lang/Object" "clone" "()Ljava/lang/Object;" ∈ lw_all) (hnat : Cond.native ⟨"java/lang/Object", "clone", "()Ljava/lang/Object;"⟩ ∈ lw_all) (hinst : Cond.instanceMethod ⟨"java/lang/Object", "clone", "()Ljava/lang/Object;"⟩ ∈ lw_all) (hsel : Cond.selects "[B" ⟨"[B", "clone", "()Ljava/lang/Object;"⟩ ⟨"java/lang/Object", "clone", "()Ljava/lang/Object;"⟩ ∈ lw_all) (hca : Cond.castable "[B" "java/lang/Cloneable" ∈ lw_tbl) (hfit : ∀ i, i < gL g pl → fits .byte (.int (ι pl i)) = true) {k8 : Nat} (hrest : ((rs.map (tv ad)).map fun v => v.category).sum ≤ k8) (h8 : k8 ≤ 8) (hR : 1 ≤ R.frames ∧ 30 ≤ R.locals) (hroom : cells + 1 ≤ R.cells ∧ slots + gL g pl ≤ R.slots) (hdg : decode cc pc = .ok (.invokevirtual index, 3)) (hst : st0 = rv ad pl :: rs.map (tv ad)) (hF : ∀ g' ι', g' = newg g 101 (gL g pl) → ι' = va_up ι (200 + gN g) (ι pl) → P g' ι')
    (kk : ∀ (H1 : Heap) (ad' : Nat → Nat) (g' : GT) (ι' : S), CX p s m args c meth cc nL ret own D dA ad' A → PW D dA A s.heap ad' (HS g' ι') H1 locs → HA ad0 g0 ad' g' → gN g + 1 ≤ gN g' → (gK g' (200 + gN g) = 101 ∧ ∀ v, v < 200 + gN g → gK g' v = gK g v) → LH ad' ls nL lv → P g' ι' → W p l e R s m args below meth c H1 locs (cells + 1) (slots + gL g pl) Q (F0 m (pc + 3) ls (rv ad' (200 + gN g) :: rs.map (tv ad')))) : W p l e R s m args below meth c H locs cells slots Q (F0 m pc ls st0) := by
  subst hst
  have hk9 : hK (HS g ι) pl = 101 := hk
  rw [rv_nz (pl_nz hP.2.2.2 hk9 (by omega) (by omega))]
  refine va_clone X.1 X.2.1 (X.2.2.1.trans hl.1.symm) X.2.2.2.1 (X.2.2.2.2.1 _ hlink) (X.2.2.2.2.1 _ hsame) (X.2.2.2.2.1 _ hnat) (X.2.2.2.2.1 _ hinst) (X.2.2.2.2.1 _ hsel) (X.2.2.2.2.2.2.1.2.1 _ hca rfl) X.2.2.2.2.2.2.1.1 hP.1 hP.2.1 hP.2.2.1 X.2.2.2.2.2.1 (pl - 200) 1 (ent_a hP.2.2.2 hk9 (by omega) (by omega)) (ty_get rfl) (nmO101 X) (va_fit (F := fun j => .int (ι pl j)) (fun i hi => hfit i hi)) hR.1 (by omega) hroom.1 hroom.2 hdg (fun q H1 _ q1 q2 q3 => ?_)
  have h1 : ∀ p, p < 200 + gN g → va_up ad (200 + gN g) q p = ad p := fun p hp => if_neg (Nat.ne_of_lt hp)
  have he : entv dA (va_up ad (200 + gN g) q) (HS (newg g 101 (gL g pl)) (va_up ι (200 + gN g) (ι pl))) (200 + gN g) = .inl (dA 101, gL g pl, .inl (ι pl)) := by
    rw [entv_a (c := 101) (show hK (HS (newg g 101 (gL g pl)) (va_up ι (200 + gN g) (ι pl))) (200 + gN g) = 101 from if_pos rfl) (by omega) (by omega)]
    rw [show hI (HS (newg g 101 (gL g pl)) (va_up ι (200 + gN g) (ι pl))) (200 + gN g) = ι pl from if_pos rfl, show hL (HS (newg g 101 (gL g pl)) (va_up ι (200 + gN g) (ι pl))) (200 + gN g) = gL g pl from if_pos rfl]
  have w' : WFH (HS (newg g 101 (gL g pl)) (va_up ι (200 + gN g) (ι pl))) := by
    have := wfh_setA (h := HS (newg g 101 (gL g pl)) (newi g ι)) (p := 200 + gN g) (f := ι pl) (wfh_newp hP.2.2.2 (c := 101) (n := gL g pl) (by decide)) (by omega)
    have e9 : setA (HS (newg g 101 (gL g pl)) (newi g ι)) (200 + gN g) (ι pl) = HS (newg g 101 (gL g pl)) (va_up ι (200 + gN g) (ι pl)) := by
      unfold setA HS newi
      congr 4
      funext j
      show va_up (newi g ι) (200 + gN g) (ι pl) j = va_up ι (200 + gN g) (ι pl) j
      by_cases h : j = 200 + gN g
      · exact (if_pos h).trans (if_pos h).symm
      · exact (if_neg h).trans ((if_neg h).trans (if_neg h).symm)
    rwa [e9] at this
  have e : PL dA ad (HS g ι) ++ [(q, .inl (dA 101, gL g pl, .inl (ι pl)))] = PL dA (va_up ad (200 + gN g) q) (HS (newg g 101 (gL g pl)) (va_up ι (200 + gN g) (ι pl))) := by
    have e2 := PL_push (dA := dA) (ad := ad) (q := q) (c := 101) (n := gL g pl) hP.2.2.2 (rfl)
    have e3 := PL_set (dA := dA) (ad := va_up ad (200 + gN g) q) (h := newp (HS g ι) 101 (gL g pl)) (h' := HS (newg g 101 (gL g pl)) (va_up ι (200 + gN g) (ι pl))) (p := 200 + gN g) (e := .inl (dA 101, gL g pl, .inl (ι pl))) (by omega) (show 200 + gN g < 200 + (gN g + 1) by omega) rfl (fun z hz => entv_ext rfl rfl (by show va_up ι (200 + gN g) (ι pl) z = va_up ι (200 + gN g) _ z; unfold va_up; rw [if_neg hz, if_neg hz]) rfl) he
    rw [← e3, show hN (HS g ι) = gN g from rfl] at *
    have e2' : PL dA (va_up ad (200 + gN g) q) (newp (HS g ι) 101 (gL g pl)) = PL dA ad (HS g ι) ++ [(q, entv dA (va_up ad (200 + gN g) q) (newp (HS g ι) 101 (gL g pl)) (200 + gN g))] := e2.symm
    rw [e2']
    have hlen : (PL dA ad (HS g ι)).length = 200 + gN g - 200 := by unfold PL; simp; rfl
    rw [show va_up ad (200 + gN g) q (200 + gN g) = q from if_pos rfl, ← hlen]
    simp [List.set_append]
  have q1' : va_P D CL (PL dA ad (HS g ι) ++ [(q, .inl (dA 101, gL g pl, .inl (ι pl)))]) H1 := q1
  have q2' : va_D A (PL dA ad (HS g ι) ++ [(q, .inl (dA 101, gL g pl, .inl (ι pl)))]) := q2
  rw [e] at q1' q2'
  have := kk H1 _ _ _ (cx_ad X (fun p hp => h1 p (by omega))) ⟨q1', q2', q3, w'⟩ (hA0.tr ⟨Nat.le_succ _, h1⟩) (Nat.le_refl _) ⟨if_pos rfl, fun v hv => if_neg (Nat.ne_of_lt hv)⟩ (lh_new hl hlv h1) (hF _ _ rfl rfl)
  rw [tvs_new hrs h1, rv_nz (by omega), show va_up ad (200 + gN g) q (200 + gN g) = q from if_pos rfl] at this
  exact this
variable {y x : MethodName} {bytes : ByteArray} {maxL nA index N b1 s1 : Nat} {rt : FieldType} {rm : Room} {C owner : String} {T : u_T} {Q1 : Int32 → S → Prop} {Qq1 : Nat → GT → S → Prop}
theorem cg_callRi (as : List TV) (X : CX p s m args c meth cc nL ret own D dA ad A) (hP : PW D dA A s.heap ad (HS g ι) H locs) (hpl : pl ≠ 0) (hrecv : ∃ cell : Cell, H[ad pl]? = some cell ∧ cell.vm.isStatics = false ∧ s.vm.findClass C = some cell.cls) (hM : CGi l y bytes maxL rt rm D dA ad g ι H.size (pX pl :: as) Q1) (cw : CallW R s args own C index y bytes maxL (some rt) (ws_ y bytes maxL (some rt)) rm 0 0 nA) (hn : as.length = nA) (hl : LH ad ls nL lv) {k8 : Nat} (hrest : (rest.map fun v => v.category).sum ≤ k8) (h8 : k8 ≤ 8) (hroom : cells ≤ R.cells ∧ slots ≤ R.slots) (hdg : decode cc pc = .ok (.invokevirtual index, 3)) (hst : st0 = (as.map (tv ad)).reverse ++ rv ad pl :: rest)
    (kk : ∀ (r : Int32) (ι' : S) (H1 : Heap) (locs1 : List Loc), Q1 r ι' → PW D dA A s.heap ad (HS g ι') H1 locs1 → W p l e R s m args below meth c H1 locs1 cells slots Q (F0 m (pc + 3) ls (.int r :: rest))) : W p l e R s m args below meth c H locs cells slots Q (F0 m pc ls st0) := by
  subst hst
  have e : rv ad pl = .ref (ad pl) := rv_nz hpl
  rw [e]
  exact va_calli (va_runV (As := as.map (tv ad)) (rest := rest) ⟨X.1, X.2.1, X.2.2.1, X.2.2.2.1, X.2.2.2.2.1⟩ hM cw ⟨cpc_blind, hrecv, hg_recv X hP hpl⟩ rfl (by rw [List.length_map]; exact hn) hl.1 rfl (lv_room (Nat.le_trans hrest h8)) hdg hroom) hP.2.2.1 (fun q _ hq => ph_free X hP q hq) (ph_free X hP) (fun r u t H1 locs1 ht hvm hq hB hz hk1 hS => by obtain ⟨ι', rfl, hq⟩ := hq; exact kk r ι' H1 locs1 hq (ph_after X hP hB ht hS))
variable {Qv1 : GT → S → Prop} {Qh1 : Int32 → GT → S → Prop}
theorem hg_callZi (ci : Nat) (as rs : List TV) (X : CX p s m args c meth cc nL ret own D dA ad A) (hP : PW D dA A s.heap ad (HS g ι) H locs) (hk : gK g pl = ci + 1) (hM : CHi l y bytes maxL rt rm D dA ad g ι H.size (pX pl :: as) Qh1 b1 s1) (cw : va_CS R s args own index y bytes maxL (some rt) (ws_ y bytes maxL (some rt)) rm b1 s1 nA) (hn : as.length = nA) (hA0 : HA ad0 g0 ad g) (hl : LH ad ls nL lv) (hlv : LTl (200 + gN g) lv) (hrs : LTs (200 + gN g) rs) {k8 : Nat} (hrest : ((rs.map (tv ad)).map fun v => v.category).sum ≤ k8) (h8 : k8 ≤ 8) (hroom : cells + b1 ≤ R.cells ∧ slots + s1 ≤ R.slots) (hdg : decode cc pc = .ok (.invokespecial index, 3)) (hst : st0 = (as.map (tv ad)).reverse ++ rv ad pl :: rs.map (tv ad))
    (kk : ∀ (r : Int32) (ad' : Nat → Nat) (g' : GT) (ι' : S) (H1 : Heap) (locs1 : List Loc), Qh1 r g' ι' → CX p s m args c meth cc nL ret own D dA ad' A → PW D dA A s.heap ad' (HS g' ι') H1 locs1 → HA ad0 g0 ad' g' → gN g ≤ gN g' → LH ad' ls nL lv → W p l e R s m args below meth c H1 locs1 (cells + b1) (slots + s1) Q (F0 m (pc + 3) ls (.int r :: rs.map (tv ad')))) (hci : ci < 99 := by exact Nat.le_of_ble_eq_true rfl) (hc : CL[ci]? = some (C, T, N) := by rfl) : W p l e R s m args below meth c H locs cells slots Q (F0 m pc ls st0) := by
  subst hst
  have hpl : pl ≠ 0 := pl_nz hP.2.2.2 (pl := pl) (ci := ci + 1) hk (by omega) (by omega)
  rw [rv_nz hpl]
  exact va_calli (va_runSU (As := as.map (tv ad)) (rest := rs.map (tv ad)) (X.2.2.2.2.2.2.1.1.1 ci _ hc).2 ⟨X.1, X.2.1, X.2.2.1, X.2.2.2.1, X.2.2.2.2.1⟩ hM cw ⟨cpc_blind, ph_recv X hP hk hci hc, hg_recv X hP hpl⟩ rfl (by rw [List.length_map]; exact hn) hl.1 rfl (lv_room (Nat.le_trans hrest h8)) hdg hroom) hP.2.2.1 (fun q _ hq => ph_free X hP q hq) (ph_free X hP) (fun r u t H1 locs1 ht hvm hq hB hz hk1 hS => by
    obtain ⟨h9, ad9⟩ := u
    obtain ⟨g', ι', rfl, hA', hq⟩ := hq
    have h1 := hA'.2
    have h2 := kk r _ g' ι' H1 locs1 hq (cx_ad X (fun p hp => h1 p (by omega))) (h_after X hP hB ht hS) (hA0.tr hA') hA'.1 (lh_new hl hlv h1)
    rw [tvs_new hrs h1] at h2
    exact h2)
theorem hg_callUi (ci : Nat) (as rs : List TV) (X : CX p s m args c meth cc nL ret own D dA ad A) (hP : PW D dA A s.heap ad (HS g ι) H locs) (hk : gK g pl = ci + 1) (hM : CHi l y bytes maxL rt rm D dA ad g ι H.size (pX pl :: as) Qh1 b1 s1) (cw : va_CU R s args own C owner index x y bytes maxL (some rt) (ws_ y bytes maxL (some rt)) rm b1 s1 nA) (hn : as.length = nA) (hA0 : HA ad0 g0 ad g) (hl : LH ad ls nL lv) (hlv : LTl (200 + gN g) lv) (hrs : LTs (200 + gN g) rs) {k8 : Nat} (hrest : ((rs.map (tv ad)).map fun v => v.category).sum ≤ k8) (h8 : k8 ≤ 8) (hroom : cells + b1 ≤ R.cells ∧ slots + s1 ≤ R.slots) (hdg : decode cc pc = .ok (.invokevirtual index, 3)) (hst : st0 = (as.map (tv ad)).reverse ++ rv ad pl :: rs.map (tv ad))
    (kk : ∀ (r : Int32) (ad' : Nat → Nat) (g' : GT) (ι' : S) (H1 : Heap) (locs1 : List Loc), Qh1 r g' ι' → CX p s m args c meth cc nL ret own D dA ad' A → PW D dA A s.heap ad' (HS g' ι') H1 locs1 → HA ad0 g0 ad' g' → gN g ≤ gN g' → LH ad' ls nL lv → W p l e R s m args below meth c H1 locs1 (cells + b1) (slots + s1) Q (F0 m (pc + 3) ls (.int r :: rs.map (tv ad')))) (hci : ci < 99 := by exact Nat.le_of_ble_eq_true rfl) (hc : CL[ci]? = some (C, T, N) := by rfl) : W p l e R s m args below meth c H locs cells slots Q (F0 m pc ls st0) := by
  subst hst
  have hpl : pl ≠ 0 := pl_nz hP.2.2.2 (pl := pl) (ci := ci + 1) hk (by omega) (by omega)
  rw [rv_nz hpl]
  exact va_calli (va_runU (As := as.map (tv ad)) (rest := rs.map (tv ad)) ⟨X.1, X.2.1, X.2.2.1, X.2.2.2.1, X.2.2.2.2.1⟩ hM cw ⟨cpc_blind, ph_recv X hP hk hci hc, hg_recv X hP hpl⟩ rfl (by rw [List.length_map]; exact hn) hl.1 rfl (lv_room (Nat.le_trans hrest h8)) hdg hroom) hP.2.2.1 (fun q _ hq => ph_free X hP q hq) (ph_free X hP) (fun r u t H1 locs1 ht hvm hq hB hz hk1 hS => by
    obtain ⟨h9, ad9⟩ := u
    obtain ⟨g', ι', rfl, hA', hq⟩ := hq
    have h1 := hA'.2
    have h2 := kk r _ g' ι' H1 locs1 hq (cx_ad X (fun p hp => h1 p (by omega))) (h_after X hP hB ht hS) (hA0.tr hA') hA'.1 (lh_new hl hlv h1)
    rw [tvs_new hrs h1] at h2
    exact h2)
theorem hg_callZq (ci : Nat) (as rs : List TV) (X : CX p s m args c meth cc nL ret own D dA ad A) (hP : PW D dA A s.heap ad (HS g ι) H locs) (hk : gK g pl = ci + 1) (hM : CHq l y bytes maxL rt rm D dA ad g ι H.size (pX pl :: as) Qq1 b1 s1) (cw : va_CS R s args own index y bytes maxL (some rt) (ws_ y bytes maxL (some rt)) rm b1 s1 nA) (hn : as.length = nA) (hA0 : HA ad0 g0 ad g) (hl : LH ad ls nL lv) (hlv : LTl (200 + gN g) lv) (hrs : LTs (200 + gN g) rs) {k8 : Nat} (hrest : ((rs.map (tv ad)).map fun v => v.category).sum ≤ k8) (h8 : k8 ≤ 8) (hroom : cells + b1 ≤ R.cells ∧ slots + s1 ≤ R.slots) (hdg : decode cc pc = .ok (.invokespecial index, 3)) (hst : st0 = (as.map (tv ad)).reverse ++ rv ad pl :: rs.map (tv ad))
    (kk : ∀ (v : Nat) (ad' : Nat → Nat) (g' : GT) (ι' : S) (H1 : Heap) (locs1 : List Loc), Qq1 v g' ι' → v < 200 + gN g' → CX p s m args c meth cc nL ret own D dA ad' A → PW D dA A s.heap ad' (HS g' ι') H1 locs1 → HA ad0 g0 ad' g' → gN g ≤ gN g' → LH ad' ls nL lv → W p l e R s m args below meth c H1 locs1 (cells + b1) (slots + s1) Q (F0 m (pc + 3) ls (rv ad' v :: rs.map (tv ad')))) (hci : ci < 99 := by exact Nat.le_of_ble_eq_true rfl) (hc : CL[ci]? = some (C, T, N) := by rfl) : W p l e R s m args below meth c H locs cells slots Q (F0 m pc ls st0) := by
  subst hst
  have hpl : pl ≠ 0 := pl_nz hP.2.2.2 (pl := pl) (ci := ci + 1) hk (by omega) (by omega)
  rw [rv_nz hpl]
  exact va_callq (va_runSU (As := as.map (tv ad)) (rest := rs.map (tv ad)) (X.2.2.2.2.2.2.1.1.1 ci _ hc).2 ⟨X.1, X.2.1, X.2.2.1, X.2.2.2.1, X.2.2.2.2.1⟩ hM cw ⟨cpc_blind, ph_recv X hP hk hci hc, hg_recv X hP hpl⟩ rfl (by rw [List.length_map]; exact hn) hl.1 rfl (lv_room (Nat.le_trans hrest h8)) hdg hroom) hP.2.2.1 (fun q _ hq => ph_free X hP q hq) (ph_free X hP) (fun r u t H1 locs1 ht hvm hq hB hz hk1 hS => by
    obtain ⟨h9, ad9⟩ := u
    obtain ⟨v, rfl, g', ι', rfl, hA', hv, hq⟩ := hq
    have h1 := hA'.2
    have h2 := kk v _ g' ι' H1 locs1 hq hv (cx_ad X (fun p hp => h1 p (by omega))) (h_after X hP hB ht hS) (hA0.tr hA') hA'.1 (lh_new hl hlv h1)
    rw [tvs_new hrs h1] at h2
    exact h2)
theorem cwVx {Ts ws ws' : List Cond} {b2 s2 : Nat} {rtx : Option FieldType} (n : Nat) (ht : ∀ w ∈ Ts, w.before args s = true) (hG : GoodIn Ts ws) (hw : ws = Cond.code y bytes maxL rtx :: ws') (hrc : rm.cells = b2) (hrs : rm.slots = s2) (hini : (Cond.initialized y.cls).before args s = true) (hl : (Cond.methodLink own index y).before args s = true) (hin : (Cond.instanceMethod y).before args s = true) (hse : (Cond.selects C y y).before #[] s = true)
    (hd : y.cls ≠ "java/lang/invoke/MethodHandle" ∧ y.cls ≠ "java/lang/invoke/VarHandle" ∧ (parseMethodDescriptor y.desc).map (fun d => d.parameters.length) = some n) (hR : rm.frames + 1 ≤ R.frames ∧ 8 + (maxL + 11) + rm.locals ≤ R.locals) : CallW R s args own C index y bytes maxL rtx ws rm b2 s2 n := by
  have hc : Cond.code y bytes maxL rtx ∈ ws := by rw [hw]; exact List.mem_cons_self
  refine ⟨⟨hrc, hrs, hR.1, hR.2, pay_in ht hG, hc, ht _ (hG _ hc).1, hini, ⟨hd.1, hd.2.1⟩, fun sig h => ?_, hl⟩, hin, va_tabs rfl rfl hse⟩
  have h2 := hd.2.2
  rw [h] at h2
  exact (Option.some.inj h2).symm
end HG2
