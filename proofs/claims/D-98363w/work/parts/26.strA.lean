set_option maxRecDepth 100000
section CGA
variable {p : Program} {l : Launch} {e : Env} {s : State} {m : MethodId} {args : Array Value} {below : List Frame} {meth : Method} {c : Code} {D : va_G} {dA : Nat → ClassId} {ad : Nat → Nat} {A : Nat → Prop} {g : GT}
def P_J9_coder (g : GT) (a0 : Nat) (ι : S) (Q : Int32 → S → Prop) : Prop := (isStrP g a0 ∧ (narrow .byte (.int (ι a0 1)) = .int (ι a0 1) ∧ Q (ι a0 1) ι))
set_option maxHeartbeats 2000000 in
theorem met_J9_coder (l : Launch) (D : va_G) (dA : Nat → ClassId) (ad : Nat → Nat) (g : GT) (ι : S) (sz : Nat) {a0 : Nat} {Q : Int32 → S → Prop} (hF : P_J9_coder g a0 ι Q) : CGi l yJ9_coder cJ9_coder 1 .byte ({ frames := 0, cells := 0, slots := 0, locals := 0 } : Room) D dA ad g ι sz [pX a0] Q := by
  unfold P_J9_coder at hF
  refine ph_enter [pX a0] (Qc := fun A => va_Qi (GQi g Q) (CB D dA ad A) A) (by decide +kernel) (Nat.le_of_ble_eq_true rfl) ?_
  intro p e s m args below meth c A ls X hP hl hnm
  have hl : LH ad ls 1 [(0, pX a0)] := hl
  refine cg_getsC X hP q329 dJ9_coder_0 ?_
  refine lv_if_eq (tgt := 13) X.1 X.2.1 dJ9_coder_3 (by decide) (fun c2 => absurd c2 (by decide)) (fun c2 => ?_)
  refine ph_aload_n (n := 0) X hl dJ9_coder_6 rfl rfl ?_
  obtain ⟨hm1, hF⟩ := hF
  refine cg_strC X hP hm1 q471 dJ9_coder_7 ?_
  refine lv_goto (tgt := 14) X.1 X.2.1 dJ9_coder_10 (by decide) ?_
  exact ph_zret (Qi := GQi g Q) X hP hF.1 ⟨_, rfl, hF.2⟩ dJ9_coder_14
def P_J9_isLatin1 (g : GT) (a0 : Nat) (ι : S) (Q : Int32 → S → Prop) : Prop := (isStrP g a0 ∧ ((¬ (ι a0 1) = 0 → (Q 0 ι)) ∧ ((ι a0 1) = 0 → (Q 1 ι))))
set_option maxHeartbeats 2000000 in
theorem met_J9_isLatin1 (l : Launch) (D : va_G) (dA : Nat → ClassId) (ad : Nat → Nat) (g : GT) (ι : S) (sz : Nat) {a0 : Nat} {Q : Int32 → S → Prop} (hF : P_J9_isLatin1 g a0 ι Q) : CGi l yJ9_isLatin1 cJ9_isLatin1 1 .boolean ({ frames := 0, cells := 0, slots := 0, locals := 0 } : Room) D dA ad g ι sz [pX a0] Q := by
  unfold P_J9_isLatin1 at hF
  refine ph_enter [pX a0] (Qc := fun A => va_Qi (GQi g Q) (CB D dA ad A) A) (by decide +kernel) (Nat.le_of_ble_eq_true rfl) ?_
  intro p e s m args below meth c A ls X hP hl hnm
  have hl : LH ad ls 1 [(0, pX a0)] := hl
  refine cg_getsC X hP q329 dJ9_isLatin1_0 ?_
  refine lv_if_eq (tgt := 17) X.1 X.2.1 dJ9_isLatin1_3 (by decide) (fun c3 => absurd c3 (by decide)) (fun c3 => ?_)
  refine ph_aload_n (n := 0) X hl dJ9_isLatin1_6 rfl rfl ?_
  obtain ⟨hm1, hF⟩ := hF
  refine cg_strC X hP hm1 q471 dJ9_isLatin1_7 ?_
  refine lv_if_ne (tgt := 17) X.1 X.2.1 dJ9_isLatin1_10 (by decide) (fun c2 => ?_) (fun c2 => ?_)
  · have hF := hF.1 c2
    refine lv_iconst (v := 0) X.1 X.2.1 dJ9_isLatin1_17 (by decide) ?_
    exact cg_zret X hP isB_0 hF dJ9_isLatin1_18
  · have hF := hF.2 c2
    refine lv_iconst (v := 1) X.1 X.2.1 dJ9_isLatin1_13 (by decide) ?_
    refine lv_goto (tgt := 18) X.1 X.2.1 dJ9_isLatin1_14 (by decide) ?_
    exact cg_zret X hP isB_1 hF dJ9_isLatin1_18
def P_J9_length (g : GT) (a0 : Nat) (ι : S) (Q : Int32 → S → Prop) : Prop := (isStrP g a0 ∧ (isBytP g (gR g a0 0) ∧ (P_J9_coder g a0 ι (fun r3 ι4 => (Q ((nI (gL g (gR g a0 0))) >>> ((r3 : Int32) &&& 31)) ι4)))))
set_option maxHeartbeats 2000000 in
theorem met_J9_length (l : Launch) (D : va_G) (dA : Nat → ClassId) (ad : Nat → Nat) (g : GT) (ι : S) (sz : Nat) {a0 : Nat} {Q : Int32 → S → Prop} (hF : P_J9_length g a0 ι Q) : CGi l yJ9_length cJ9_length 1 .int ({ frames := 1, cells := 0, slots := 0, locals := 20 } : Room) D dA ad g ι sz [pX a0] Q := by
  unfold P_J9_length at hF
  refine ph_enter [pX a0] (Qc := fun A => va_Qi (GQi g Q) (CB D dA ad A) A) (by decide +kernel) (Nat.le_of_ble_eq_true rfl) ?_
  intro p e s m args below meth c A ls X hP hl hnm
  have hl : LH ad ls 1 [(0, pX a0)] := hl
  refine ph_aload_n (n := 0) X hl dJ9_length_0 rfl rfl ?_
  obtain ⟨hm1, hF⟩ := hF
  refine cg_strV X hP hm1 q470 dJ9_length_1 ?_
  obtain ⟨hm2, hF⟩ := hF
  refine cg_bytlen X hP hm2 dJ9_length_4 ?_
  refine ph_aload_n (n := 0) X hl dJ9_length_5 rfl rfl ?_
  refine cg_callRi [] X hP (str_nz hP hm1) (str_recv X hP hm1) (met_J9_coder l D dA ad g _ _ hF) (cwV 0 X.2.2.2.2.1 (lw_V q325 q326 q327 q109 q328) rfl rfl rfl (by decide +kernel) ⟨Nat.le_of_ble_eq_true rfl, Nat.le_of_ble_eq_true rfl⟩) rfl hl (k8 := 1) (csi (cs0 (k := 0))) (by decide) ⟨Nat.le_refl _, Nat.le_refl _⟩ dJ9_length_6 rfl (fun r3 ι4 H locs hF hP => ?_)
  refine lv_ishr X.1 X.2.1 dJ9_length_9 ?_
  exact cg_iret X hP hF dJ9_length_10
def P_J9_checkIndex (g : GT) (a0 : Int32) (a1 : Int32) (ι : S) (Q : S → Prop) : Prop := (∀ w1, (w1 = 0 ∨ w1 = 131) → (P_J14_checkIndex g a0 a1 w1 ι (fun r2 ι3 => (Q ι3))))
set_option maxHeartbeats 2000000 in
theorem met_J9_checkIndex (l : Launch) (D : va_G) (dA : Nat → ClassId) (ad : Nat → Nat) (g : GT) (ι : S) (sz : Nat) {a0 : Int32} {a1 : Int32} {Q : S → Prop} (hF : P_J9_checkIndex g a0 a1 ι Q) : CGv l yJ9_checkIndex cJ9_checkIndex 2 ({ frames := 1, cells := 0, slots := 0, locals := 22 } : Room) D dA ad g ι sz [iX a0, iX a1] Q := by
  unfold P_J9_checkIndex at hF
  refine ph_enter [iX a0, iX a1] (Qc := fun A => va_Qv (GQv g Q) (CB D dA ad A) A) (by decide +kernel) (Nat.le_of_ble_eq_true rfl) ?_
  intro p e s m args below meth c A ls X hP hl hnm
  have hl : LH ad ls 2 [(0, iX a0), (1, iX a1)] := hl
  refine ph_iload_n (n := 0) X hl dJ9_checkIndex_0 rfl rfl ?_
  refine ph_iload_n (n := 1) X hl dJ9_checkIndex_1 rfl rfl ?_
  refine cg_getsF X hP q307 dJ9_checkIndex_2 (fun w1 hww1 => ?_)
  have hF := hF w1 hww1
  refine cg_callSi [iX a0, iX a1, pX w1] X hP (met_J14_checkIndex l D dA ad g _ _ hF) (va_cwS 3 X.2.2.2.2.1 (lw_S q1219 q785 q115 q786) rfl rfl rfl (by decide +kernel) ⟨Nat.le_of_ble_eq_true rfl, Nat.le_of_ble_eq_true rfl⟩) rfl hl (k8 := 0) (cs0 (k := 0)) (by decide) ⟨Nat.le_refl _, Nat.le_refl _⟩ dJ9_checkIndex_5 rfl (fun r2 ι3 H locs hF hP => ?_)
  refine lv_pop X.1 X.2.1 dJ9_checkIndex_8 rfl ?_
  exact cg_vret X hP hF dJ9_checkIndex_9
def P_J15_charAt (g : GT) (a0 : Nat) (a1 : Int32) (ι : S) (Q : Int32 → S → Prop) : Prop := (isBytP g a0 ∧ (P_J9_checkIndex g a1 (nI (gL g a0)) ι (fun ι3 => (vp_in a1 (gL g a0) ∧ (narrow .char (.int ((((ι3 a0 a1.toNatClampNeg) &&& 255).toUInt32 % 65536).toInt32)) = .int ((((ι3 a0 a1.toNatClampNeg) &&& 255).toUInt32 % 65536).toInt32) ∧ Q ((((ι3 a0 a1.toNatClampNeg) &&& 255).toUInt32 % 65536).toInt32) ι3)))))
set_option maxHeartbeats 2000000 in
theorem met_J15_charAt (l : Launch) (D : va_G) (dA : Nat → ClassId) (ad : Nat → Nat) (g : GT) (ι : S) (sz : Nat) {a0 : Nat} {a1 : Int32} {Q : Int32 → S → Prop} (hF : P_J15_charAt g a0 a1 ι Q) : CGi l yJ15_charAt cJ15_charAt 2 .char ({ frames := 2, cells := 0, slots := 0, locals := 43 } : Room) D dA ad g ι sz [pX a0, iX a1] Q := by
  unfold P_J15_charAt at hF
  refine ph_enter [pX a0, iX a1] (Qc := fun A => va_Qi (GQi g Q) (CB D dA ad A) A) (by decide +kernel) (Nat.le_of_ble_eq_true rfl) ?_
  intro p e s m args below meth c A ls X hP hl hnm
  have hl : LH ad ls 2 [(0, pX a0), (1, iX a1)] := hl
  refine ph_iload_n (n := 1) X hl dJ15_charAt_0 rfl rfl ?_
  refine ph_aload_n (n := 0) X hl dJ15_charAt_1 rfl rfl ?_
  obtain ⟨hm1, hF⟩ := hF
  refine cg_bytlen X hP hm1 dJ15_charAt_2 ?_
  refine cg_callSv [iX a1, iX (nI (gL g a0))] X hP (met_J9_checkIndex l D dA ad g _ _ hF) (va_cwS 2 X.2.2.2.2.1 (lw_S q1418 q1217 q109 q1218) rfl rfl rfl (by decide +kernel) ⟨Nat.le_of_ble_eq_true rfl, Nat.le_of_ble_eq_true rfl⟩) rfl hl (k8 := 0) (cs0 (k := 0)) (by decide) ⟨Nat.le_refl _, Nat.le_refl _⟩ dJ15_charAt_3 rfl (fun ι3 H locs hF hP => ?_)
  refine ph_aload_n (n := 0) X hl dJ15_charAt_6 rfl rfl ?_
  refine ph_iload_n (n := 1) X hl dJ15_charAt_7 rfl rfl ?_
  obtain ⟨hr5, hF⟩ := hF
  refine cg_bytald X hP hm1 hr5 (k := a1.toNatClampNeg) rfl dJ15_charAt_8 ?_
  refine lv_sipush (v := 255) X.1 X.2.1 dJ15_charAt_9 (by decide) ?_
  refine lv_iand X.1 X.2.1 dJ15_charAt_12 ?_
  refine lv_i2c X.1 X.2.1 dJ15_charAt_13 rfl ?_
  exact ph_zret (Qi := GQi g Q) X hP hF.1 ⟨_, rfl, hF.2⟩ dJ15_charAt_14
def P_J9_charAt (g : GT) (a0 : Nat) (a1 : Int32) (ι : S) (Q : Int32 → S → Prop) : Prop := (isStrP g a0 ∧ (P_J9_isLatin1 g a0 ι (fun r1 ι2 => (¬ r1 = 0 ∧ (P_J15_charAt g (gR g a0 0) a1 ι2 (fun r6 ι7 => (narrow .char (.int r6) = .int r6 ∧ Q r6 ι7)))))))
set_option maxHeartbeats 2000000 in
theorem met_J9_charAt (l : Launch) (D : va_G) (dA : Nat → ClassId) (ad : Nat → Nat) (g : GT) (ι : S) (sz : Nat) {a0 : Nat} {a1 : Int32} {Q : Int32 → S → Prop} (hF : P_J9_charAt g a0 a1 ι Q) : CGi l yJ9_charAt cJ9_charAt 2 .char ({ frames := 3, cells := 0, slots := 0, locals := 64 } : Room) D dA ad g ι sz [pX a0, iX a1] Q := by
  unfold P_J9_charAt at hF
  refine ph_enter [pX a0, iX a1] (Qc := fun A => va_Qi (GQi g Q) (CB D dA ad A) A) (by decide +kernel) (Nat.le_of_ble_eq_true rfl) ?_
  intro p e s m args below meth c A ls X hP hl hnm
  have hl : LH ad ls 2 [(0, pX a0), (1, iX a1)] := hl
  refine ph_aload_n (n := 0) X hl dJ9_charAt_0 rfl rfl ?_
  obtain ⟨hm3, hF⟩ := hF
  refine cg_callRi [] X hP (str_nz hP hm3) (str_recv X hP hm3) (met_J9_isLatin1 l D dA ad g _ _ hF) (cwV 0 X.2.2.2.2.1 (lw_V q1411 q1412 q1413 q109 q1414) rfl rfl rfl (by decide +kernel) ⟨Nat.le_of_ble_eq_true rfl, Nat.le_of_ble_eq_true rfl⟩) rfl hl (k8 := 0) (cs0 (k := 0)) (by decide) ⟨Nat.le_refl _, Nat.le_refl _⟩ dJ9_charAt_1 rfl (fun r1 ι2 H locs hF hP => ?_)
  obtain ⟨hq5, hF⟩ := hF
  refine lv_if_eq (tgt := 16) X.1 X.2.1 dJ9_charAt_4 (by decide) (fun c4 => absurd c4 hq5) (fun c4 => ?_)
  refine ph_aload_n (n := 0) X hl dJ9_charAt_7 rfl rfl ?_
  refine cg_strV X hP hm3 q470 dJ9_charAt_8 ?_
  refine ph_iload_n (n := 1) X hl dJ9_charAt_11 rfl rfl ?_
  refine cg_callSi [pX (gR g a0 0), iX a1] X hP (met_J15_charAt l D dA ad g _ _ hF) (va_cwS 2 X.2.2.2.2.1 (lw_S q1415 q1416 q116 q1417) rfl rfl rfl (by decide +kernel) ⟨Nat.le_of_ble_eq_true rfl, Nat.le_of_ble_eq_true rfl⟩) rfl hl (k8 := 0) (cs0 (k := 0)) (by decide) ⟨Nat.le_refl _, Nat.le_refl _⟩ dJ9_charAt_12 rfl (fun r6 ι7 H locs hF hP => ?_)
  exact ph_zret (Qi := GQi g Q) X hP hF.1 ⟨_, rfl, hF.2⟩ dJ9_charAt_15
def P_J15_equals_9 (g : GT) (Q : Int32 → S → Prop) : Nat → Nat → Nat → Int32 → S → Prop
  | 0, _, _, _, _ => False
  | n + 1, x0, x1, x2, ι => (isBytP g x0 ∧ (((nI (gL g x0)) ≤ x2 → (Q 1 ι)) ∧ (¬ (nI (gL g x0)) ≤ x2 → (vp_in x2 (gL g x0) ∧ (isBytP g x1 ∧ (vp_in x2 (gL g x1) ∧ (((ι x0 x2.toNatClampNeg) = (ι x1 x2.toNatClampNeg) → (P_J15_equals_9 g Q  n x0 x1 (x2 + 1) ι)) ∧ (¬ (ι x0 x2.toNatClampNeg) = (ι x1 x2.toNatClampNeg) → (Q 0 ι)))))))))
def P_J15_equals (g : GT) (a0 : Nat) (a1 : Nat) (ι : S) (Q : Int32 → S → Prop) : Prop := (isBytP g a0 ∧ (isBytP g a1 ∧ ((¬ (nI (gL g a0)) = (nI (gL g a1)) → (Q 0 ι)) ∧ ((nI (gL g a0)) = (nI (gL g a1)) → (∃ n9, P_J15_equals_9 g Q n9 a0 a1 0 ι)))))
set_option maxHeartbeats 2000000 in
theorem w_J15_equals_9 (X : CX p s m args c meth cJ15_equals 3 (some .boolean) RJ15 D dA ad A) {Q : Int32 → S → Prop} : ∀ (n : Nat) (x0 : Nat) (x1 : Nat) (x2 : Int32) (ι : S) (H : Heap) (locs : List Loc) (ls : Array Slot), P_J15_equals_9 g Q n x0 x1 x2 ι → PW D dA A s.heap ad (HS g ι) H locs → LH ad ls 3 [(0, pX x0), (1, pX x1), (2, iX x2)] → WGi p l e ({ frames := 0, cells := 0, slots := 0, locals := 0 } : Room) s m args below meth c D dA ad A g Q H locs (F0 m 9 ls []) := by
  intro n
  induction n with
  | zero =>
    intro x0 x1 x2 ι H locs ls hF
    exact hF.elim
  | succ n ih =>
    intro x0 x1 x2 ι H locs ls hF hP hl
    rw [P_J15_equals_9] at hF
    refine ph_iload_n (n := 2) X hl dJ15_equals_9 rfl rfl ?_
    refine ph_aload_n (n := 0) X hl dJ15_equals_10 rfl rfl ?_
    obtain ⟨hm1, hF⟩ := hF
    refine cg_bytlen X hP hm1 dJ15_equals_11 ?_
    refine lv_icmp_ge (tgt := 32) X.1 X.2.1 dJ15_equals_12 (by decide) (fun c6 => ?_) (fun c6 => ?_)
    · have hF := hF.1 c6
      refine lv_iconst (v := 1) X.1 X.2.1 dJ15_equals_32 (by decide) ?_
      exact cg_zret X hP isB_1 hF dJ15_equals_33
    · have hF := hF.2 c6
      refine ph_aload_n (n := 0) X hl dJ15_equals_15 rfl rfl ?_
      refine ph_iload_n (n := 2) X hl dJ15_equals_16 rfl rfl ?_
      obtain ⟨hr2, hF⟩ := hF
      refine cg_bytald X hP hm1 hr2 (k := x2.toNatClampNeg) rfl dJ15_equals_17 ?_
      refine ph_aload_n (n := 1) X hl dJ15_equals_18 rfl rfl ?_
      refine ph_iload_n (n := 2) X hl dJ15_equals_19 rfl rfl ?_
      obtain ⟨hm3, hF⟩ := hF
      obtain ⟨hr4, hF⟩ := hF
      refine cg_bytald X hP hm3 hr4 (k := x2.toNatClampNeg) rfl dJ15_equals_20 ?_
      refine lv_icmp_eq (tgt := 26) X.1 X.2.1 dJ15_equals_21 (by decide) (fun c5 => ?_) (fun c5 => ?_)
      · have hF := hF.1 c5
        refine ph_iinc (v := x2 + 1) (k := 2) X hl dJ15_equals_26 rfl rfl (by decide) rfl (fun ls hl => ?_)
        refine lv_goto (tgt := 9) X.1 X.2.1 dJ15_equals_29 (by decide) ?_
        exact ih _ _ _ _ _ _ _ hF hP (lh_sub hl [1, 2, 0] rfl)
      · have hF := hF.2 c5
        refine lv_iconst (v := 0) X.1 X.2.1 dJ15_equals_24 (by decide) ?_
        exact cg_zret X hP isB_0 hF dJ15_equals_25
set_option maxHeartbeats 2000000 in
theorem met_J15_equals (l : Launch) (D : va_G) (dA : Nat → ClassId) (ad : Nat → Nat) (g : GT) (ι : S) (sz : Nat) {a0 : Nat} {a1 : Nat} {Q : Int32 → S → Prop} (hF : P_J15_equals g a0 a1 ι Q) : CGi l yJ15_equals cJ15_equals 3 .boolean ({ frames := 0, cells := 0, slots := 0, locals := 0 } : Room) D dA ad g ι sz [pX a0, pX a1] Q := by
  unfold P_J15_equals at hF
  refine ph_enter [pX a0, pX a1] (Qc := fun A => va_Qi (GQi g Q) (CB D dA ad A) A) (by decide +kernel) (Nat.le_of_ble_eq_true rfl) ?_
  intro p e s m args below meth c A ls X hP hl hnm
  have hl : LH ad ls 3 [(0, pX a0), (1, pX a1)] := hl
  refine ph_aload_n (n := 0) X hl dJ15_equals_0 rfl rfl ?_
  obtain ⟨hm7, hF⟩ := hF
  refine cg_bytlen X hP hm7 dJ15_equals_1 ?_
  refine ph_aload_n (n := 1) X hl dJ15_equals_2 rfl rfl ?_
  obtain ⟨hm8, hF⟩ := hF
  refine cg_bytlen X hP hm8 dJ15_equals_3 ?_
  refine lv_icmp_ne (tgt := 34) X.1 X.2.1 dJ15_equals_4 (by decide) (fun c9 => ?_) (fun c9 => ?_)
  · have hF := hF.1 c9
    refine lv_iconst (v := 0) X.1 X.2.1 dJ15_equals_34 (by decide) ?_
    exact cg_zret X hP isB_0 hF dJ15_equals_35
  · have hF := hF.2 c9
    refine lv_iconst (v := 0) X.1 X.2.1 dJ15_equals_7 (by decide) ?_
    refine ph_istore_n X hl dJ15_equals_8 rfl (by decide) rfl (fun ls hl => ?_)
    obtain ⟨n9, hF⟩ := hF
    exact w_J15_equals_9 X n9 _ _ _ _ _ _ _ hF hP (lh_sub hl [1, 2, 0] rfl)
def P_J9_equals_36 (g : GT) (Q : Int32 → S → Prop) (x0 : Nat) (x2 : Nat) (ι : S) : Prop := (isStrP g x0 ∧ (isStrP g x2 ∧ (P_J15_equals g (gR g x0 0) (gR g x2 0) ι (fun r3 ι4 => ((r3 = 0 → (Q 0 ι4)) ∧ (¬ r3 = 0 → (Q 1 ι4)))))))
def P_J9_equals (g : GT) (a0 : Nat) (a1 : Nat) (ι : S) (Q : Int32 → S → Prop) : Prop := (isStrP g a0 ∧ (isStrP g a1 ∧ ((¬ a0 = a1 → ((¬ (ι a0 1) = (ι a1 1) → (Q 0 ι)) ∧ ((ι a0 1) = (ι a1 1) → (P_J9_equals_36 g Q a0 a1 ι)))) ∧ (a0 = a1 → (Q 1 ι)))))
set_option maxHeartbeats 2000000 in
theorem w_J9_equals_36 (X : CX p s m args c meth cJ9_equals 3 (some .boolean) RJ9 D dA ad A) {Q : Int32 → S → Prop} : ∀ (x0 : Nat) (x2 : Nat) (ι : S) (H : Heap) (locs : List Loc) (ls : Array Slot), P_J9_equals_36 g Q x0 x2 ι → PW D dA A s.heap ad (HS g ι) H locs → LH ad ls 3 [(0, pX x0), (2, pX x2)] → WGi p l e ({ frames := 1, cells := 0, slots := 0, locals := 22 } : Room) s m args below meth c D dA ad A g Q H locs (F0 m 36 ls []) := by
  intro x0 x2 ι H locs ls hF hP hl
  unfold P_J9_equals_36 at hF
  refine ph_aload_n (n := 0) X hl dJ9_equals_36 rfl rfl ?_
  obtain ⟨hm1, hF⟩ := hF
  refine cg_strV X hP hm1 q470 dJ9_equals_37 ?_
  refine ph_aload_n (n := 1) X hl dJ9_equals_40 rfl rfl ?_
  obtain ⟨hm2, hF⟩ := hF
  refine cg_strV X hP hm2 q470 dJ9_equals_41 ?_
  refine cg_callSi [pX (gR g x0 0), pX (gR g x2 0)] X hP (met_J15_equals l D dA ad g _ _ hF) (va_cwS 2 X.2.2.2.2.1 (lw_S q1297 q1298 q116 q1299) rfl rfl rfl (by decide +kernel) ⟨Nat.le_of_ble_eq_true rfl, Nat.le_of_ble_eq_true rfl⟩) rfl hl (k8 := 0) (cs0 (k := 0)) (by decide) ⟨Nat.le_refl _, Nat.le_refl _⟩ dJ9_equals_44 rfl (fun r3 ι4 H locs hF hP => ?_)
  refine lv_if_eq (tgt := 54) X.1 X.2.1 dJ9_equals_47 (by decide) (fun c6 => ?_) (fun c6 => ?_)
  · have hF := hF.1 c6
    refine lv_iconst (v := 0) X.1 X.2.1 dJ9_equals_54 (by decide) ?_
    exact cg_zret X hP isB_0 hF dJ9_equals_55
  · have hF := hF.2 c6
    refine lv_iconst (v := 1) X.1 X.2.1 dJ9_equals_50 (by decide) ?_
    refine lv_goto (tgt := 55) X.1 X.2.1 dJ9_equals_51 (by decide) ?_
    exact cg_zret X hP isB_1 hF dJ9_equals_55
set_option maxHeartbeats 2000000 in
theorem met_J9_equals (l : Launch) (D : va_G) (dA : Nat → ClassId) (ad : Nat → Nat) (g : GT) (ι : S) (sz : Nat) {a0 : Nat} {a1 : Nat} {Q : Int32 → S → Prop} (hF : P_J9_equals g a0 a1 ι Q) : CGi l yJ9_equals cJ9_equals 3 .boolean ({ frames := 1, cells := 0, slots := 0, locals := 22 } : Room) D dA ad g ι sz [pX a0, pX a1] Q := by
  unfold P_J9_equals at hF
  refine ph_enter [pX a0, pX a1] (Qc := fun A => va_Qi (GQi g Q) (CB D dA ad A) A) (by decide +kernel) (Nat.le_of_ble_eq_true rfl) ?_
  intro p e s m args below meth c A ls X hP hl hnm
  have hl : LH ad ls 3 [(0, pX a0), (1, pX a1)] := hl
  refine ph_aload_n (n := 0) X hl dJ9_equals_0 rfl rfl ?_
  refine ph_aload_n (n := 1) X hl dJ9_equals_1 rfl rfl ?_
  obtain ⟨hm7, hF⟩ := hF
  obtain ⟨hm8, hF⟩ := hF
  refine cg_acmp_ne (tgt := 7) X (str_nz hP hm7) (str_nz hP hm8) (str_inj X hP hm7 hm8) dJ9_equals_2 (by decide) (fun c9 => ?_) (fun c9 => ?_)
  · have hF := hF.1 c9
    refine ph_aload_n (n := 1) X hl dJ9_equals_7 rfl rfl ?_
    refine cg_instStr X hP hm8 q1239 dJ9_equals_8 ?_
    refine lv_if_eq (tgt := 54) X.1 X.2.1 dJ9_equals_11 (by decide) (fun c12 => absurd c12 (by decide)) (fun c12 => ?_)
    refine ph_aload_n (n := 1) X hl dJ9_equals_14 rfl rfl ?_
    refine cg_castStr X hP hm8 q1239 dJ9_equals_15 ?_
    refine ph_astore_n X hl dJ9_equals_18 rfl (by decide) rfl (fun ls hl => ?_)
    refine cg_getsC X hP q329 dJ9_equals_19 ?_
    refine lv_if_eq (tgt := 36) X.1 X.2.1 dJ9_equals_22 (by decide) (fun c11 => absurd c11 (by decide)) (fun c11 => ?_)
    refine ph_aload_n (n := 1) X hl dJ9_equals_25 rfl rfl ?_
    refine cg_strC X hP hm7 q471 dJ9_equals_26 ?_
    refine ph_aload_n (n := 0) X hl dJ9_equals_29 rfl rfl ?_
    refine cg_strC X hP hm8 q471 dJ9_equals_30 ?_
    refine lv_icmp_ne (tgt := 54) X.1 X.2.1 dJ9_equals_33 (by decide) (fun c10 => ?_) (fun c10 => ?_)
    · have hF := hF.1 c10
      refine lv_iconst (v := 0) X.1 X.2.1 dJ9_equals_54 (by decide) ?_
      exact cg_zret X hP isB_0 hF dJ9_equals_55
    · have hF := hF.2 c10
      exact w_J9_equals_36 X _ _ _ _ _ _ hF hP (lh_sub hl [1, 0] rfl)
  · have hF := hF.2 c9
    refine lv_iconst (v := 1) X.1 X.2.1 dJ9_equals_5 (by decide) ?_
    exact cg_zret X hP isB_1 hF dJ9_equals_6
end CGA
