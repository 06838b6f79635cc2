set_option maxRecDepth 100000
section HGA
variable {p : Program} {l : Launch} {e : Env} {s : State} {m : MethodId} {args : Array Value} {below : List Frame} {meth : Method} {c : Code} {D : va_G} {dA : Nat → ClassId} {ad0 : Nat → Nat} {A : Nat → Prop} {g0 : GT}
def P_J2_init (BC BS : Nat) (a0 : Nat) (a1 : Int32) (g : GT) (ι : S) (Q : GT → S → Prop) : Prop := (a0 < 200 + gN g ∧ ((0 ≤ BC ∧ 0 ≤ BS) ∧ (gK g a0 = 18 ∧ (P_J1_init 0 0 a0 g ι (fun g3 ι4 => (¬ a1 ≤ 0 ∧ (¬ a1 < 0 ∧ (a1.toNatClampNeg ≤ 100000000 ∧ ((1 ≤ BC ∧ 0 + a1.toNatClampNeg ≤ BS) ∧ (∀ g13 ι14, g13 = newg g3 110 a1.toNatClampNeg → ι14 = newi g3 ι4 → (gK g13 a0 = 18 ∧ (∀ g18, g18 = setg g13 a0 1 (200 + gN g3) → (Q g18 ι14)))))))))))))
set_option maxHeartbeats 2000000 in
theorem we_J2_init (hnm : meth.name = "<init>") {BC BS : Nat} {Q : GT → S → Prop} : ∀ (a0 : Nat) (a1 : Int32) (g : GT) (ι : S) (ad : Nat → Nat) (H : Heap) (locs : List Loc) (ls : Array Slot), P_J2_init BC BS a0 a1 g ι Q → CX p s m args c meth cJ2_init 2 none RJ2 D dA ad A → PW D dA A s.heap ad (HS g ι) H locs → HA ad0 g0 ad g → LH ad ls 2 [(0, pX a0), (1, iX a1)] → WHv p l e ({ frames := 3, cells := BC, slots := BS, locals := 60 } : Room) s m args below meth c D dA ad0 g0 A Q BC BS H locs (0) (0) (F0 m 0 ls []) := by
  intro a0 a1 g ι ad H locs ls hF X hP hag hl
  unfold P_J2_init at hF
  refine ph_aload_n (n := 0) X hl dJ2_init_0 rfl rfl ?_
  obtain ⟨hx1, hF⟩ := hF
  obtain ⟨hd2, hF⟩ := hF
  obtain ⟨hm20, hF⟩ := hF
  refine hg_callI [] [] X hP (cg_nz hP hm20 (by decide)) (met_J1_init l D dA ad _ _ _ _ _ hF) (cwI 0 X.2.2.2.2.1 (lw_meth q161) rfl rfl rfl (X.2.2.2.2.1 _ q101) (X.2.2.2.2.1 _ q159) (X.2.2.2.2.1 _ q160) rfl (by decide +kernel) ⟨Nat.le_of_ble_eq_true rfl, Nat.le_of_ble_eq_true rfl⟩) rfl hag hl (ltlp hx1 (ltli ltln)) ltsn (k8 := 0) (cs0 (k := 0)) (by decide) hd2 dJ2_init_1 rfl (fun ad g3 ι4 H locs hF X hP hag he5 hl => ?_)
  show WHv p l e ({ frames := 3, cells := BC, slots := BS, locals := 60 } : Room) s m args below meth c D dA ad0 g0 A Q BC BS H locs (0) (0) (F0 m 4 ls [])
  refine ph_iload_n (n := 1) X hl dJ2_init_4 rfl rfl ?_
  obtain ⟨hq9, hF⟩ := hF
  refine lv_if_le (tgt := 19) X.1 X.2.1 dJ2_init_5 (by decide) (fun c8 => absurd c8 hq9) (fun c8 => ?_)
  refine ph_aload_n (n := 0) X hl dJ2_init_8 rfl rfl ?_
  refine ph_iload_n (n := 1) X hl dJ2_init_9 rfl rfl ?_
  obtain ⟨hn10, hF⟩ := hF
  obtain ⟨hn11, hF⟩ := hF
  obtain ⟨hd12, hF⟩ := hF
  have hl : LH ad ls 2 [] := lh_sub hl [] rfl
  refine hg_newaO [pX a0] X hP hag hl ltln (ltsp (ltm hx1 he5) ltsn) q166 q167 hn10 rfl hn11 hd12 dJ2_init_10 rfl hF (fun H ad g13 ι14 X hP hag he15 hk16 hl hF => ?_)
  show WHv p l e ({ frames := 3, cells := BC, slots := BS, locals := 60 } : Room) s m args below meth c D dA ad0 g0 A Q BC BS H locs (1) (0 + a1.toNatClampNeg) (F0 m 13 ls [rv ad (200 + gN g3), rv ad a0])
  obtain ⟨hm17, hF⟩ := hF
  refine hg_putr 17 1 X in_J2 tyJ2 tyJ2_ok nmJ2 hP hm17 q482 dJ2_init_13 (ltw he15) hF (fun H locs g18 hP he19 hF => ?_) (Or.inr ⟨_, rfl⟩)
  have hag : HA ad0 g0 ad g18 := ⟨by rw [he19.1]; exact hag.1, hag.2⟩
  refine lv_goto (tgt := 60) X.1 X.2.1 dJ2_init_16 (by decide) ?_
  exact hg_vret X hP hag hF hd12.1 hd12.2 dJ2_init_60
set_option maxHeartbeats 2000000 in
theorem met_J2_init (l : Launch) (D : va_G) (dA : Nat → ClassId) (ad : Nat → Nat) (BC BS : Nat) (g : GT) (ι : S) (sz : Nat) {a0 : Nat} {a1 : Int32} {Q : GT → S → Prop} (hF : P_J2_init BC BS a0 a1 g ι Q) : CHv l yJ2_init cJ2_init 2 ({ frames := 3, cells := BC, slots := BS, locals := 60 } : Room) D dA ad g ι sz [pX a0, iX a1] Q BC BS := by
  refine ph_enter [pX a0, iX a1] (Qc := fun A => HPv D dA ad g A Q) (by decide +kernel) (Nat.le_of_ble_eq_true rfl) ?_
  intro p e s m args below meth c A ls X hP hl hnm
  have hnm : meth.name = "<init>" := hnm
  exact we_J2_init hnm _ _ _ _ _ _ _ _ hF X hP HA.rf hl
def P_J11_newLength (BC BS : Nat) (a0 : Int32) (a1 : Int32) (a2 : Int32) (g : GT) (ι : S) (Q : Int32 → GT → S → Prop) : Prop := (¬ (a0 + (if a1 < a2 then a2 else a1)) ≤ 0 ∧ (¬ 2147483639 < (a0 + (if a1 < a2 then a2 else a1)) ∧ (Q (a0 + (if a1 < a2 then a2 else a1)) g ι)))
set_option maxHeartbeats 2000000 in
theorem we_J11_newLength (hnm : meth.name = "newLength") {BC BS : Nat} {Q : Int32 → GT → S → Prop} : ∀ (a0 : Int32) (a1 : Int32) (a2 : Int32) (g : GT) (ι : S) (ad : Nat → Nat) (H : Heap) (locs : List Loc) (ls : Array Slot), P_J11_newLength BC BS a0 a1 a2 g ι Q → CX p s m args c meth cJ11_newLength 4 (some .int) RJ11 D dA ad A → PW D dA A s.heap ad (HS g ι) H locs → HA ad0 g0 ad g → LH ad ls 4 [(0, iX a0), (1, iX a1), (2, iX a2)] → WHi p l e ({ frames := 1, cells := BC, slots := BS, locals := 14 } : Room) s m args below meth c D dA ad0 g0 A Q BC BS H locs (0) (0) (F0 m 0 ls []) := by
  intro a0 a1 a2 g ι ad H locs ls hF X hP hag hl
  unfold P_J11_newLength at hF
  refine ph_iload_n (n := 0) X hl dJ11_newLength_0 rfl rfl ?_
  refine ph_iload_n (n := 1) X hl dJ11_newLength_1 rfl rfl ?_
  refine ph_iload_n (n := 2) X hl dJ11_newLength_2 rfl rfl ?_
  refine va_mmax X.1 X.2.1 (X.2.2.1.trans hl.1.symm) X.2.2.2.1 (X.2.2.2.2.1 _ q266) (X.2.2.2.2.1 _ q267) (X.2.2.2.2.1 _ q112) (X.2.2.2.2.1 _ q268) (Nat.le_of_ble_eq_true rfl) (Nat.le_trans (Nat.add_le_add_right (csi (cs0 (k := 0))) 13) (Nat.le_of_ble_eq_true rfl)) (Nat.zero_le _) (Nat.zero_le _) dJ11_newLength_3 ?_
  refine lv_iadd X.1 X.2.1 dJ11_newLength_6 ?_
  refine ph_istore_n X hl dJ11_newLength_7 rfl (by decide) rfl (fun ls hl => ?_)
  refine lv_iconst (v := 0) X.1 X.2.1 dJ11_newLength_8 (by decide) ?_
  refine ph_iload_n (n := 0) X hl dJ11_newLength_9 rfl rfl ?_
  obtain ⟨hq2, hF⟩ := hF
  refine lv_icmp_ge (tgt := 21) X.1 X.2.1 dJ11_newLength_10 (by decide) (fun c1 => absurd c1 hq2) (fun c1 => ?_)
  refine ph_iload_n (n := 0) X hl dJ11_newLength_13 rfl rfl ?_
  refine lv_ldc (v := 2147483639) X.1 X.2.1 X.2.2.2.1 (X.2.2.2.2.1 _ q269) dJ11_newLength_14 ?_
  obtain ⟨hq4, hF⟩ := hF
  refine lv_icmp_gt (tgt := 21) X.1 X.2.1 dJ11_newLength_16 (by decide) (fun c3 => absurd c3 hq4) (fun c3 => ?_)
  refine ph_iload_n (n := 0) X hl dJ11_newLength_19 rfl rfl ?_
  exact hg_iret X hP hag hF (Nat.zero_le _) (Nat.zero_le _) dJ11_newLength_20
set_option maxHeartbeats 2000000 in
theorem met_J11_newLength (l : Launch) (D : va_G) (dA : Nat → ClassId) (ad : Nat → Nat) (BC BS : Nat) (g : GT) (ι : S) (sz : Nat) {a0 : Int32} {a1 : Int32} {a2 : Int32} {Q : Int32 → GT → S → Prop} (hF : P_J11_newLength BC BS a0 a1 a2 g ι Q) : CHi l yJ11_newLength cJ11_newLength 4 .int ({ frames := 1, cells := BC, slots := BS, locals := 14 } : Room) D dA ad g ι sz [iX a0, iX a1, iX a2] Q BC BS := by
  refine ph_enter [iX a0, iX a1, iX a2] (Qc := fun A => HPi D dA ad g A Q) (by decide +kernel) (Nat.le_of_ble_eq_true rfl) ?_
  intro p e s m args below meth c A ls X hP hl hnm
  have hnm : meth.name = "newLength" := hnm
  exact we_J11_newLength hnm _ _ _ _ _ _ _ _ _ hF X hP HA.rf hl
def P_J13_copyOf_3_24 (BC BS : Nat) (Q : Nat → GT → S → Prop) (y0 : Nat) (x0 : Nat) (x1 : Int32) (g : GT) (ι : S) (uc us : Nat) : Prop := (gK g x0 = 110 ∧ ((uc ≤ BC ∧ us ≤ BS) ∧ (gK g y0 = 110 ∧ (¬ (if x1 < (nI (gL g x0)) then x1 else nI (gL g x0)) < 0 ∧ (0 + (if x1 < (nI (gL g x0)) then x1 else nI (gL g x0)).toNatClampNeg ≤ gL g x0 ∧ (0 + (if x1 < (nI (gL g x0)) then x1 else nI (gL g x0)).toNatClampNeg ≤ gL g y0 ∧ ((∀ i, i < (if x1 < (nI (gL g x0)) then x1 else nI (gL g x0)).toNatClampNeg → gR g x0 (0 + i) = 0 ∨ isElt (gK g (gR g x0 (0 + i)))) ∧ (∀ g8, g8 = setga g y0 (va_cpy (gR g x0) (gR g y0) 0 0 ((if x1 < (nI (gL g x0)) then x1 else nI (gL g x0)).toNatClampNeg)) → (y0 < 200 + gN g8 ∧ (Q y0 g8 ι))))))))))
def P_J13_copyOf_3 (BC BS : Nat) (a0 : Nat) (a1 : Int32) (a2 : Nat) (g : GT) (ι : S) (Q : Nat → GT → S → Prop) : Prop := (a2 = 130 ∧ (¬ a1 < 0 ∧ (a1.toNatClampNeg ≤ 100000000 ∧ (a0 < 200 + gN g ∧ ((1 ≤ BC ∧ 0 + a1.toNatClampNeg ≤ BS) ∧ (∀ g16 ι17, g16 = newg g 110 a1.toNatClampNeg → ι17 = newi g ι → (P_J13_copyOf_3_24 BC BS Q (200 + gN g) a0 a1 g16 ι17 (1) (0 + a1.toNatClampNeg))))))))
set_option maxHeartbeats 2000000 in
theorem w_J13_copyOf_3_24 (hnm : meth.name = "copyOf") {BC BS : Nat} {Q : Nat → GT → S → Prop} : ∀ (y0 : Nat) (x0 : Nat) (x1 : Int32) (g : GT) (ι : S) (uc us : Nat) (ad : Nat → Nat) (H : Heap) (locs : List Loc) (ls : Array Slot), P_J13_copyOf_3_24 BC BS Q y0 x0 x1 g ι uc us → CX p s m args c meth cJ13_copyOf_3 4 (some (.array (.object "java/lang/Object"))) RJ13 D dA ad A → PW D dA A s.heap ad (HS g ι) H locs → HA ad0 g0 ad g → LH ad ls 4 [(0, pX x0), (1, iX x1)] → WHq p l e ({ frames := 1, cells := BC, slots := BS, locals := 60 } : Room) s m args below meth c D dA ad0 g0 A Q BC BS H locs (uc) (us) (F0 m 24 ls [rv ad y0]) := by
  intro y0 x0 x1 g ι uc us ad H locs ls hF X hP hag hl
  unfold P_J13_copyOf_3_24 at hF
  refine ph_astore_n X hl dJ13_copyOf_3_24 rfl (by decide) rfl (fun ls hl => ?_)
  refine ph_aload_n (n := 1) X hl dJ13_copyOf_3_25 rfl rfl ?_
  refine lv_iconst (v := 0) X.1 X.2.1 dJ13_copyOf_3_26 (by decide) ?_
  refine ph_aload_n (n := 0) X hl dJ13_copyOf_3_27 rfl rfl ?_
  refine lv_iconst (v := 0) X.1 X.2.1 dJ13_copyOf_3_28 (by decide) ?_
  refine ph_aload_n (n := 1) X hl dJ13_copyOf_3_29 rfl rfl ?_
  obtain ⟨hm1, hF⟩ := hF
  refine cg_alenO X hP hm1 dJ13_copyOf_3_30 ?_
  refine ph_iload_n (n := 2) X hl dJ13_copyOf_3_31 rfl rfl ?_
  obtain ⟨hd2, hF⟩ := hF
  refine va_mmin X.1 X.2.1 (X.2.2.1.trans hl.1.symm) X.2.2.2.1 (X.2.2.2.2.1 _ q284) (X.2.2.2.2.1 _ q285) (X.2.2.2.2.1 _ q112) (X.2.2.2.2.1 _ q286) (Nat.le_of_ble_eq_true rfl) (Nat.le_trans (Nat.add_le_add_right (csi (csr (csi (csr (cs0 (k := 0)))))) 13) (Nat.le_of_ble_eq_true rfl)) (hd2).1 (hd2).2 dJ13_copyOf_3_32 ?_
  obtain ⟨hm3, hF⟩ := hF
  obtain ⟨hn4, hF⟩ := hF
  obtain ⟨hr5, hF⟩ := hF
  obtain ⟨hr6, hF⟩ := hF
  obtain ⟨hc7, hF⟩ := hF
  refine hg_copyq (a := 0) (b := 0) (k := (if x1 < (nI (gL g x0)) then x1 else nI (gL g x0)).toNatClampNeg) X hP hl q287 q289 q288 q114 hm1 hm3 (by decide) (by decide) hn4 (by decide) (by decide) rfl hr5 hr6 hc7 (Nat.le_of_ble_eq_true rfl) (Nat.le_trans (Nat.add_le_add (cs0 (k := 0)) acw) (Nat.le_of_ble_eq_true rfl)) dJ13_copyOf_3_35 hF (fun H locs g8 hP he9 hF => ?_)
  have hag : HA ad0 g0 ad g8 := ⟨by rw [he9.1]; exact hag.1, hag.2⟩
  refine ph_aload_n (n := 0) X hl dJ13_copyOf_3_38 rfl rfl ?_
  obtain ⟨hx10, hF⟩ := hF
  exact hg_aret X hP hag (Or.inr ⟨_, rfl⟩) hx10 hF hd2.1 hd2.2 dJ13_copyOf_3_39
set_option maxHeartbeats 2000000 in
theorem we_J13_copyOf_3 (hnm : meth.name = "copyOf") {BC BS : Nat} {Q : Nat → GT → S → Prop} : ∀ (a0 : Nat) (a1 : Int32) (a2 : Nat) (g : GT) (ι : S) (ad : Nat → Nat) (H : Heap) (locs : List Loc) (ls : Array Slot), P_J13_copyOf_3 BC BS a0 a1 a2 g ι Q → CX p s m args c meth cJ13_copyOf_3 4 (some (.array (.object "java/lang/Object"))) RJ13 D dA ad A → PW D dA A s.heap ad (HS g ι) H locs → HA ad0 g0 ad g → LH ad ls 4 [(0, pX a0), (1, iX a1), (2, pX a2)] → WHq p l e ({ frames := 1, cells := BC, slots := BS, locals := 60 } : Room) s m args below meth c D dA ad0 g0 A Q BC BS H locs (0) (0) (F0 m 0 ls []) := by
  intro a0 a1 a2 g ι ad H locs ls hF X hP hag hl
  unfold P_J13_copyOf_3 at hF
  refine ph_aload_n (n := 2) X hl dJ13_copyOf_3_0 rfl rfl ?_
  refine cg_ldcM X q673 dJ13_copyOf_3_1 ?_
  obtain ⟨hq11, hF⟩ := hF
  rw [hq11]
  refine cg_acmp_ne (a := 130) (b := 130) (tgt := 13) X (by decide) (by decide) (fun _ => rfl) dJ13_copyOf_3_3 (by decide) (fun c => absurd rfl c) (fun _ => ?_)
  refine ph_iload_n (n := 1) X hl dJ13_copyOf_3_6 rfl rfl ?_
  obtain ⟨hn12, hF⟩ := hF
  obtain ⟨hn13, hF⟩ := hF
  obtain ⟨hx14, hF⟩ := hF
  obtain ⟨hd15, hF⟩ := hF
  have hl : LH ad ls 4 [(0, pX a0), (1, iX a1)] := lh_sub hl [0, 1] rfl
  refine hg_newaO [] X hP hag hl (ltlp hx14 (ltli ltln)) ltsn q674 q167 hn12 rfl hn13 hd15 dJ13_copyOf_3_7 rfl hF (fun H ad g16 ι17 X hP hag he18 hk19 hl hF => ?_)
  show WHq p l e ({ frames := 1, cells := BC, slots := BS, locals := 60 } : Room) s m args below meth c D dA ad0 g0 A Q BC BS H locs (1) (0 + a1.toNatClampNeg) (F0 m 10 ls [rv ad (200 + gN g)])
  refine lv_goto (tgt := 24) X.1 X.2.1 dJ13_copyOf_3_10 (by decide) ?_
  exact w_J13_copyOf_3_24 hnm _ _ _ _ _ _ _ _ _ _ _ hF X hP hag hl
set_option maxHeartbeats 2000000 in
theorem met_J13_copyOf_3 (l : Launch) (D : va_G) (dA : Nat → ClassId) (ad : Nat → Nat) (BC BS : Nat) (g : GT) (ι : S) (sz : Nat) {a0 : Nat} {a1 : Int32} {a2 : Nat} {Q : Nat → GT → S → Prop} (hF : P_J13_copyOf_3 BC BS a0 a1 a2 g ι Q) : CHq l yJ13_copyOf_3 cJ13_copyOf_3 4 (.array (.object "java/lang/Object")) ({ frames := 1, cells := BC, slots := BS, locals := 60 } : Room) D dA ad g ι sz [pX a0, iX a1, pX a2] Q BC BS := by
  refine ph_enter [pX a0, iX a1, pX a2] (Qc := fun A => HPq D dA ad g A Q) (by decide +kernel) (Nat.le_of_ble_eq_true rfl) ?_
  intro p e s m args below meth c A ls X hP hl hnm
  have hnm : meth.name = "copyOf" := hnm
  exact we_J13_copyOf_3 hnm _ _ _ _ _ _ _ _ _ hF X hP HA.rf hl
def P_J13_copyOf_2 (BC BS : Nat) (a0 : Nat) (a1 : Int32) (g : GT) (ι : S) (Q : Nat → GT → S → Prop) : Prop := (gK g a0 = 110 ∧ (∃ b2 d3, ((0 + b2 ≤ BC ∧ 0 + d3 ≤ BS) ∧ (P_J13_copyOf_3 b2 d3 a0 a1 130 g ι (fun r8 g5 ι6 => (Q r8 g5 ι6))))))
set_option maxHeartbeats 2000000 in
theorem we_J13_copyOf_2 (hnm : meth.name = "copyOf") {BC BS : Nat} {Q : Nat → GT → S → Prop} : ∀ (a0 : Nat) (a1 : Int32) (g : GT) (ι : S) (ad : Nat → Nat) (H : Heap) (locs : List Loc) (ls : Array Slot), P_J13_copyOf_2 BC BS a0 a1 g ι Q → CX p s m args c meth cJ13_copyOf_2 2 (some (.array (.object "java/lang/Object"))) RJ13 D dA ad A → PW D dA A s.heap ad (HS g ι) H locs → HA ad0 g0 ad g → LH ad ls 2 [(0, pX a0), (1, iX a1)] → WHq p l e ({ frames := 2, cells := BC, slots := BS, locals := 83 } : Room) s m args below meth c D dA ad0 g0 A Q BC BS H locs (0) (0) (F0 m 0 ls []) := by
  intro a0 a1 g ι ad H locs ls hF X hP hag hl
  unfold P_J13_copyOf_2 at hF
  refine ph_aload_n (n := 0) X hl dJ13_copyOf_2_0 rfl rfl ?_
  refine ph_iload_n (n := 1) X hl dJ13_copyOf_2_1 rfl rfl ?_
  refine ph_aload_n (n := 0) X hl dJ13_copyOf_2_2 rfl rfl ?_
  obtain ⟨hm1, hF⟩ := hF
  refine cg_getCl X hP hl hm1 q642 q2427 q2426 q643 q669 (k8 := 2) (csi (csr (cs0 (k := 0)))) (by decide) ⟨Nat.le_of_ble_eq_true rfl, Nat.le_of_ble_eq_true rfl⟩ dJ13_copyOf_2_3 ?_
  obtain ⟨b2, d3, hF⟩ := hF
  obtain ⟨hd4, hF⟩ := hF
  have hl : LH ad ls 2 [] := lh_sub hl [] rfl
  refine hg_callSq [pX a0, iX a1, pX 130] [] X hP (met_J13_copyOf_3 l D dA ad _ _ _ _ _ hF) (va_cwS 3 X.2.2.2.2.1 (lw_S q670 q671 q113 q672) rfl rfl rfl (by decide +kernel) ⟨Nat.le_of_ble_eq_true rfl, Nat.le_of_ble_eq_true rfl⟩) rfl hag hl ltln ltsn (k8 := 0) (cs0 (k := 0)) (by decide) hd4 dJ13_copyOf_2_6 rfl (fun r8 ad g5 ι6 H locs hF hv9 X hP hag he7 hl => ?_)
  show WHq p l e ({ frames := 2, cells := BC, slots := BS, locals := 83 } : Room) s m args below meth c D dA ad0 g0 A Q BC BS H locs (0 + b2) (0 + d3) (F0 m 9 ls [rv ad r8])
  exact hg_aret X hP hag (Or.inr ⟨_, rfl⟩) hv9 hF hd4.1 hd4.2 dJ13_copyOf_2_9
set_option maxHeartbeats 2000000 in
theorem met_J13_copyOf_2 (l : Launch) (D : va_G) (dA : Nat → ClassId) (ad : Nat → Nat) (BC BS : Nat) (g : GT) (ι : S) (sz : Nat) {a0 : Nat} {a1 : Int32} {Q : Nat → GT → S → Prop} (hF : P_J13_copyOf_2 BC BS a0 a1 g ι Q) : CHq l yJ13_copyOf_2 cJ13_copyOf_2 2 (.array (.object "java/lang/Object")) ({ frames := 2, cells := BC, slots := BS, locals := 83 } : Room) D dA ad g ι sz [pX a0, iX a1] Q BC BS := by
  refine ph_enter [pX a0, iX a1] (Qc := fun A => HPq D dA ad g A Q) (by decide +kernel) (Nat.le_of_ble_eq_true rfl) ?_
  intro p e s m args below meth c A ls X hP hl hnm
  have hnm : meth.name = "copyOf" := hnm
  exact we_J13_copyOf_2 hnm _ _ _ _ _ _ _ _ hF X hP HA.rf hl
def P_J2_grow_2_20 (BC BS : Nat) (Q : Nat → GT → S → Prop) (x0 : Nat) (x1 : Int32) (x2 : Int32) (g : GT) (ι : S) (uc us : Nat) : Prop := (x0 < 200 + gN g ∧ (∃ b2 d3, ((uc + b2 ≤ BC ∧ us + d3 ≤ BS) ∧ (P_J11_newLength b2 d3 x2 (x1 - x2) (x2 >>> ((1 : Int32) &&& 31)) g ι (fun r8 g5 ι6 => (gK g5 x0 = 18 ∧ (∃ b12 d13, ((uc + b2 + b12 ≤ BC ∧ us + d3 + d13 ≤ BS) ∧ (P_J13_copyOf_2 b12 d13 (gR g5 x0 1) r8 g5 ι6 (fun r18 g15 ι16 => (gK g15 x0 = 18 ∧ (∀ g21, g21 = setg g15 x0 1 r18 → (Q r18 g21 ι16)))))))))))))
def P_J2_grow_2 (BC BS : Nat) (a0 : Nat) (a1 : Int32) (g : GT) (ι : S) (Q : Nat → GT → S → Prop) : Prop := (gK g a0 = 18 ∧ (gK g (gR g a0 1) = 110 ∧ (0 < (nI (gL g (gR g a0 1))) ∧ (P_J2_grow_2_20 BC BS Q a0 a1 (nI (gL g (gR g a0 1))) g ι (0) (0)))))
set_option maxHeartbeats 2000000 in
theorem w_J2_grow_2_20 (hnm : meth.name = "grow") {BC BS : Nat} {Q : Nat → GT → S → Prop} : ∀ (x0 : Nat) (x1 : Int32) (x2 : Int32) (g : GT) (ι : S) (uc us : Nat) (ad : Nat → Nat) (H : Heap) (locs : List Loc) (ls : Array Slot), P_J2_grow_2_20 BC BS Q x0 x1 x2 g ι uc us → CX p s m args c meth cJ2_grow_2 4 (some (.array (.object "java/lang/Object"))) RJ2 D dA ad A → PW D dA A s.heap ad (HS g ι) H locs → HA ad0 g0 ad g → LH ad ls 4 [(0, pX x0), (1, iX x1), (2, iX x2)] → WHq p l e ({ frames := 3, cells := BC, slots := BS, locals := 104 } : Room) s m args below meth c D dA ad0 g0 A Q BC BS H locs (uc) (us) (F0 m 20 ls []) := by
  intro x0 x1 x2 g ι uc us ad H locs ls hF X hP hag hl
  unfold P_J2_grow_2_20 at hF
  refine ph_iload_n (n := 2) X hl dJ2_grow_2_20 rfl rfl ?_
  refine ph_iload_n (n := 1) X hl dJ2_grow_2_21 rfl rfl ?_
  refine ph_iload_n (n := 2) X hl dJ2_grow_2_22 rfl rfl ?_
  refine lv_isub X.1 X.2.1 dJ2_grow_2_23 ?_
  refine ph_iload_n (n := 2) X hl dJ2_grow_2_24 rfl rfl ?_
  refine lv_iconst (v := 1) X.1 X.2.1 dJ2_grow_2_25 (by decide) ?_
  refine lv_ishr X.1 X.2.1 dJ2_grow_2_26 ?_
  obtain ⟨hx1, hF⟩ := hF
  obtain ⟨b2, d3, hF⟩ := hF
  obtain ⟨hd4, hF⟩ := hF
  have hl : LH ad ls 4 [(0, pX x0)] := lh_sub hl [0] rfl
  refine hg_callSi [iX x2, iX (x1 - x2), iX (x2 >>> ((1 : Int32) &&& 31))] [] X hP (met_J11_newLength l D dA ad _ _ _ _ _ hF) (va_cwS 3 X.2.2.2.2.1 (lw_S q638 q264 q111 q265) rfl rfl rfl (by decide +kernel) ⟨Nat.le_of_ble_eq_true rfl, Nat.le_of_ble_eq_true rfl⟩) rfl hag hl (ltlp hx1 ltln) ltsn (k8 := 0) (cs0 (k := 0)) (by decide) hd4 dJ2_grow_2_27 rfl (fun r8 ad g5 ι6 H locs hF X hP hag he7 hl => ?_)
  show WHq p l e ({ frames := 3, cells := BC, slots := BS, locals := 104 } : Room) s m args below meth c D dA ad0 g0 A Q BC BS H locs (uc + b2) (us + d3) (F0 m 30 ls [.int r8])
  refine ph_istore_n X hl dJ2_grow_2_30 rfl (by decide) rfl (fun ls hl => ?_)
  refine ph_aload_n (n := 1) X hl dJ2_grow_2_31 rfl rfl ?_
  refine ph_aload_n (n := 1) X hl dJ2_grow_2_32 rfl rfl ?_
  obtain ⟨hm10, hF⟩ := hF
  have hv11 := gR_lt hP x0 1
  refine cg_getr 17 1 X in_J2 hP hm10 q482 dJ2_grow_2_33 ?_
  refine ph_iload_n (n := 0) X hl dJ2_grow_2_36 rfl rfl ?_
  obtain ⟨b12, d13, hF⟩ := hF
  obtain ⟨hd14, hF⟩ := hF
  have hl : LH ad ls 4 [] := lh_sub hl [] rfl
  refine hg_callSq [pX (gR g5 x0 1), iX r8] [pX x0] X hP (met_J13_copyOf_2 l D dA ad _ _ _ _ _ hF) (va_cwS 2 X.2.2.2.2.1 (lw_S q639 q640 q113 q641) rfl rfl rfl (by decide +kernel) ⟨Nat.le_of_ble_eq_true rfl, Nat.le_of_ble_eq_true rfl⟩) rfl hag hl ltln (ltsp (ltm hx1 he7) ltsn) (k8 := 1) (csr (cs0 (k := 0))) (by decide) hd14 dJ2_grow_2_37 rfl (fun r18 ad g15 ι16 H locs hF hv19 X hP hag he17 hl => ?_)
  show WHq p l e ({ frames := 3, cells := BC, slots := BS, locals := 104 } : Room) s m args below meth c D dA ad0 g0 A Q BC BS H locs (uc + b2 + b12) (us + d3 + d13) (F0 m 40 ls [rv ad r18, rv ad x0])
  refine ph_dup_x1_rr X dJ2_grow_2_40 ?_
  obtain ⟨hm20, hF⟩ := hF
  refine hg_putr 17 1 X in_J2 tyJ2 tyJ2_ok nmJ2 hP hm20 q482 dJ2_grow_2_41 hv19 hF (fun H locs g21 hP he22 hF => ?_) (Or.inr ⟨_, rfl⟩)
  have hag : HA ad0 g0 ad g21 := ⟨by rw [he22.1]; exact hag.1, hag.2⟩
  exact hg_aret X hP hag (Or.inr ⟨_, rfl⟩) (ltm hv19 (Nat.le_of_eq he22.1.symm)) hF hd14.1 hd14.2 dJ2_grow_2_44
set_option maxHeartbeats 2000000 in
theorem we_J2_grow_2 (hnm : meth.name = "grow") {BC BS : Nat} {Q : Nat → GT → S → Prop} : ∀ (a0 : Nat) (a1 : Int32) (g : GT) (ι : S) (ad : Nat → Nat) (H : Heap) (locs : List Loc) (ls : Array Slot), P_J2_grow_2 BC BS a0 a1 g ι Q → CX p s m args c meth cJ2_grow_2 4 (some (.array (.object "java/lang/Object"))) RJ2 D dA ad A → PW D dA A s.heap ad (HS g ι) H locs → HA ad0 g0 ad g → LH ad ls 4 [(0, pX a0), (1, iX a1)] → WHq p l e ({ frames := 3, cells := BC, slots := BS, locals := 104 } : Room) s m args below meth c D dA ad0 g0 A Q BC BS H locs (0) (0) (F0 m 0 ls []) := by
  intro a0 a1 g ι ad H locs ls hF X hP hag hl
  unfold P_J2_grow_2 at hF
  refine ph_aload_n (n := 0) X hl dJ2_grow_2_0 rfl rfl ?_
  obtain ⟨hm23, hF⟩ := hF
  have hv24 := gR_lt hP a0 1
  refine cg_getr 17 1 X in_J2 hP hm23 q482 dJ2_grow_2_1 ?_
  obtain ⟨hm25, hF⟩ := hF
  refine cg_alenO X hP hm25 dJ2_grow_2_4 ?_
  refine ph_istore_n X hl dJ2_grow_2_5 rfl (by decide) rfl (fun ls hl => ?_)
  refine ph_iload_n (n := 0) X hl dJ2_grow_2_6 rfl rfl ?_
  obtain ⟨hq27, hF⟩ := hF
  refine lv_if_gt (tgt := 20) X.1 X.2.1 dJ2_grow_2_7 (by decide) (fun c26 => ?_) (fun c26 => absurd hq27 c26)
  exact w_J2_grow_2_20 hnm _ _ _ _ _ _ _ _ _ _ _ hF X hP hag (lh_sub hl [1, 2, 0] rfl)
set_option maxHeartbeats 2000000 in
theorem met_J2_grow_2 (l : Launch) (D : va_G) (dA : Nat → ClassId) (ad : Nat → Nat) (BC BS : Nat) (g : GT) (ι : S) (sz : Nat) {a0 : Nat} {a1 : Int32} {Q : Nat → GT → S → Prop} (hF : P_J2_grow_2 BC BS a0 a1 g ι Q) : CHq l yJ2_grow_2 cJ2_grow_2 4 (.array (.object "java/lang/Object")) ({ frames := 3, cells := BC, slots := BS, locals := 104 } : Room) D dA ad g ι sz [pX a0, iX a1] Q BC BS := by
  refine ph_enter [pX a0, iX a1] (Qc := fun A => HPq D dA ad g A Q) (by decide +kernel) (Nat.le_of_ble_eq_true rfl) ?_
  intro p e s m args below meth c A ls X hP hl hnm
  have hnm : meth.name = "grow" := hnm
  exact we_J2_grow_2 hnm _ _ _ _ _ _ _ _ hF X hP HA.rf hl
def P_J2_grow (BC BS : Nat) (a0 : Nat) (g : GT) (ι : S) (Q : Nat → GT → S → Prop) : Prop := (gK g a0 = 18 ∧ (∃ b2 d3, ((0 + b2 ≤ BC ∧ 0 + d3 ≤ BS) ∧ (P_J2_grow_2 b2 d3 a0 ((ι a0 2) + 1) g ι (fun r8 g5 ι6 => (Q r8 g5 ι6))))))
set_option maxHeartbeats 2000000 in
theorem we_J2_grow (hnm : meth.name = "grow") {BC BS : Nat} {Q : Nat → GT → S → Prop} : ∀ (a0 : Nat) (g : GT) (ι : S) (ad : Nat → Nat) (H : Heap) (locs : List Loc) (ls : Array Slot), P_J2_grow BC BS a0 g ι Q → CX p s m args c meth cJ2_grow 1 (some (.array (.object "java/lang/Object"))) RJ2 D dA ad A → PW D dA A s.heap ad (HS g ι) H locs → HA ad0 g0 ad g → LH ad ls 1 [(0, pX a0)] → WHq p l e ({ frames := 4, cells := BC, slots := BS, locals := 127 } : Room) s m args below meth c D dA ad0 g0 A Q BC BS H locs (0) (0) (F0 m 0 ls []) := by
  intro a0 g ι ad H locs ls hF X hP hag hl
  unfold P_J2_grow at hF
  refine ph_aload_n (n := 0) X hl dJ2_grow_0 rfl rfl ?_
  refine ph_aload_n (n := 0) X hl dJ2_grow_1 rfl rfl ?_
  obtain ⟨hm1, hF⟩ := hF
  refine cg_geti 17 2 X in_J2 hP hm1 q483 dJ2_grow_2 ?_
  refine lv_iconst (v := 1) X.1 X.2.1 dJ2_grow_5 (by decide) ?_
  refine lv_iadd X.1 X.2.1 dJ2_grow_6 ?_
  obtain ⟨b2, d3, hF⟩ := hF
  obtain ⟨hd4, hF⟩ := hF
  have hl : LH ad ls 1 [] := lh_sub hl [] rfl
  refine hg_callVq 17 [iX ((ι a0 2) + 1)] [] X hP hm1 (met_J2_grow_2 l D dA ad _ _ _ _ _ hF) (cwV 1 X.2.2.2.2.1 (lw_V q632 q634 qs3 q102 q635) rfl rfl rfl (by decide +kernel) ⟨Nat.le_of_ble_eq_true rfl, Nat.le_of_ble_eq_true rfl⟩) rfl hag hl ltln ltsn (k8 := 0) (cs0 (k := 0)) (by decide) hd4 dJ2_grow_7 rfl (fun r8 ad g5 ι6 H locs hF hv9 X hP hag he7 hl => ?_)
  show WHq p l e ({ frames := 4, cells := BC, slots := BS, locals := 127 } : Room) s m args below meth c D dA ad0 g0 A Q BC BS H locs (0 + b2) (0 + d3) (F0 m 10 ls [rv ad r8])
  exact hg_aret X hP hag (Or.inr ⟨_, rfl⟩) hv9 hF hd4.1 hd4.2 dJ2_grow_10
set_option maxHeartbeats 2000000 in
theorem met_J2_grow (l : Launch) (D : va_G) (dA : Nat → ClassId) (ad : Nat → Nat) (BC BS : Nat) (g : GT) (ι : S) (sz : Nat) {a0 : Nat} {Q : Nat → GT → S → Prop} (hF : P_J2_grow BC BS a0 g ι Q) : CHq l yJ2_grow cJ2_grow 1 (.array (.object "java/lang/Object")) ({ frames := 4, cells := BC, slots := BS, locals := 127 } : Room) D dA ad g ι sz [pX a0] Q BC BS := by
  refine ph_enter [pX a0] (Qc := fun A => HPq D dA ad g A Q) (by decide +kernel) (Nat.le_of_ble_eq_true rfl) ?_
  intro p e s m args below meth c A ls X hP hl hnm
  have hnm : meth.name = "grow" := hnm
  exact we_J2_grow hnm _ _ _ _ _ _ _ hF X hP HA.rf hl
def P_J2_add_2_11 (BC BS : Nat) (Q : GT → S → Prop) (x0 : Nat) (x1 : Nat) (x2 : Nat) (x3 : Int32) (g : GT) (ι : S) (uc us : Nat) : Prop := (gK g x2 = 110 ∧ (vp_in x3 (gL g x2) ∧ ((x1 = 0 ∨ isElt (gK g x1)) ∧ (∀ g4, g4 = setg g x2 x3.toNatClampNeg x1 → (gK g4 x0 = 18 ∧ (∀ ι7, ι7 = up2 ι x0 2 (x3 + 1) → ((uc ≤ BC ∧ us ≤ BS) ∧ (Q g4 ι7))))))))
def P_J2_add_2 (BC BS : Nat) (a0 : Nat) (a1 : Nat) (a2 : Nat) (a3 : Int32) (g : GT) (ι : S) (Q : GT → S → Prop) : Prop := (gK g a2 = 110 ∧ ((¬ a3 = (nI (gL g a2)) → (P_J2_add_2_11 BC BS Q a0 a1 a2 a3 g ι (0) (0))) ∧ (a3 = (nI (gL g a2)) → (a1 < 200 + gN g ∧ (a0 < 200 + gN g ∧ (∃ b12 d13, ((0 + b12 ≤ BC ∧ 0 + d13 ≤ BS) ∧ (gK g a0 = 18 ∧ (P_J2_grow b12 d13 a0 g ι (fun r18 g15 ι16 => (P_J2_add_2_11 BC BS Q a0 a1 r18 a3 g15 ι16 (0 + b12) (0 + d13))))))))))))
set_option maxHeartbeats 2000000 in
theorem w_J2_add_2_11 (hnm : meth.name = "add") {BC BS : Nat} {Q : GT → S → Prop} : ∀ (x0 : Nat) (x1 : Nat) (x2 : Nat) (x3 : Int32) (g : GT) (ι : S) (uc us : Nat) (ad : Nat → Nat) (H : Heap) (locs : List Loc) (ls : Array Slot), P_J2_add_2_11 BC BS Q x0 x1 x2 x3 g ι uc us → CX p s m args c meth cJ2_add_2 4 none RJ2 D dA ad A → PW D dA A s.heap ad (HS g ι) H locs → HA ad0 g0 ad g → LH ad ls 4 [(0, pX x0), (1, pX x1), (2, pX x2), (3, iX x3)] → WHv p l e ({ frames := 5, cells := BC, slots := BS, locals := 147 } : Room) s m args below meth c D dA ad0 g0 A Q BC BS H locs (uc) (us) (F0 m 11 ls []) := by
  intro x0 x1 x2 x3 g ι uc us ad H locs ls hF X hP hag hl
  unfold P_J2_add_2_11 at hF
  refine ph_aload_n (n := 2) X hl dJ2_add_2_11 rfl rfl ?_
  refine ph_iload_n (n := 3) X hl dJ2_add_2_12 rfl rfl ?_
  refine ph_aload_n (n := 1) X hl dJ2_add_2_13 rfl rfl ?_
  obtain ⟨hm1, hF⟩ := hF
  obtain ⟨hr2, hF⟩ := hF
  obtain ⟨hv3, hF⟩ := hF
  refine hg_aast X hP hm1 hr2 (k := x3.toNatClampNeg) rfl hv3 dJ2_add_2_14 hF (fun H locs g4 hP he5 hF => ?_)
  have hag : HA ad0 g0 ad g4 := ⟨by rw [he5.1]; exact hag.1, hag.2⟩
  refine ph_aload_n (n := 0) X hl dJ2_add_2_15 rfl rfl ?_
  refine ph_iload_n (n := 3) X hl dJ2_add_2_16 rfl rfl ?_
  refine lv_iconst (v := 1) X.1 X.2.1 dJ2_add_2_17 (by decide) ?_
  refine lv_iadd X.1 X.2.1 dJ2_add_2_18 ?_
  obtain ⟨hm6, hF⟩ := hF
  refine hg_puti 17 2 X in_J2 tyJ2 tyJ2_ok nmJ2 hP hm6 q483 dJ2_add_2_19 rfl rfl hF (fun H locs ι7 hP hF => ?_)
  obtain ⟨hd8, hF⟩ := hF
  exact hg_vret X hP hag hF hd8.1 hd8.2 dJ2_add_2_22
set_option maxHeartbeats 2000000 in
theorem we_J2_add_2 (hnm : meth.name = "add") {BC BS : Nat} {Q : GT → S → Prop} : ∀ (a0 : Nat) (a1 : Nat) (a2 : Nat) (a3 : Int32) (g : GT) (ι : S) (ad : Nat → Nat) (H : Heap) (locs : List Loc) (ls : Array Slot), P_J2_add_2 BC BS a0 a1 a2 a3 g ι Q → CX p s m args c meth cJ2_add_2 4 none RJ2 D dA ad A → PW D dA A s.heap ad (HS g ι) H locs → HA ad0 g0 ad g → LH ad ls 4 [(0, pX a0), (1, pX a1), (2, pX a2), (3, iX a3)] → WHv p l e ({ frames := 5, cells := BC, slots := BS, locals := 147 } : Room) s m args below meth c D dA ad0 g0 A Q BC BS H locs (0) (0) (F0 m 0 ls []) := by
  intro a0 a1 a2 a3 g ι ad H locs ls hF X hP hag hl
  unfold P_J2_add_2 at hF
  refine ph_iload_n (n := 3) X hl dJ2_add_2_0 rfl rfl ?_
  refine ph_aload_n (n := 2) X hl dJ2_add_2_1 rfl rfl ?_
  obtain ⟨hm9, hF⟩ := hF
  refine cg_alenO X hP hm9 dJ2_add_2_2 ?_
  refine lv_icmp_ne (tgt := 11) X.1 X.2.1 dJ2_add_2_3 (by decide) (fun c21 => ?_) (fun c21 => ?_)
  · have hF := hF.1 c21
    exact w_J2_add_2_11 hnm _ _ _ _ _ _ _ _ _ _ _ _ hF X hP hag hl
  · have hF := hF.2 c21
    refine ph_aload_n (n := 0) X hl dJ2_add_2_6 rfl rfl ?_
    obtain ⟨hx10, hF⟩ := hF
    obtain ⟨hx11, hF⟩ := hF
    obtain ⟨b12, d13, hF⟩ := hF
    obtain ⟨hd14, hF⟩ := hF
    obtain ⟨hm20, hF⟩ := hF
    have hl : LH ad ls 4 [(0, pX a0), (1, pX a1), (3, iX a3)] := lh_sub hl [0, 1, 3] rfl
    refine hg_callVq 17 [] [] X hP hm20 (met_J2_grow l D dA ad _ _ _ _ _ hF) (cwV 0 X.2.2.2.2.1 (lw_V q628 q630 qs2 q102 q631) rfl rfl rfl (by decide +kernel) ⟨Nat.le_of_ble_eq_true rfl, Nat.le_of_ble_eq_true rfl⟩) rfl hag hl (ltlp hx11 (ltlp hx10 (ltli ltln))) ltsn (k8 := 0) (cs0 (k := 0)) (by decide) hd14 dJ2_add_2_7 rfl (fun r18 ad g15 ι16 H locs hF hv19 X hP hag he17 hl => ?_)
    show WHv p l e ({ frames := 5, cells := BC, slots := BS, locals := 147 } : Room) s m args below meth c D dA ad0 g0 A Q BC BS H locs (0 + b12) (0 + d13) (F0 m 10 ls [rv ad r18])
    refine ph_astore_n X hl dJ2_add_2_10 rfl (by decide) rfl (fun ls hl => ?_)
    exact w_J2_add_2_11 hnm _ _ _ _ _ _ _ _ _ _ _ _ hF X hP hag (lh_sub hl [1, 2, 0, 3] rfl)
set_option maxHeartbeats 2000000 in
theorem met_J2_add_2 (l : Launch) (D : va_G) (dA : Nat → ClassId) (ad : Nat → Nat) (BC BS : Nat) (g : GT) (ι : S) (sz : Nat) {a0 : Nat} {a1 : Nat} {a2 : Nat} {a3 : Int32} {Q : GT → S → Prop} (hF : P_J2_add_2 BC BS a0 a1 a2 a3 g ι Q) : CHv l yJ2_add_2 cJ2_add_2 4 ({ frames := 5, cells := BC, slots := BS, locals := 147 } : Room) D dA ad g ι sz [pX a0, pX a1, pX a2, iX a3] Q BC BS := by
  refine ph_enter [pX a0, pX a1, pX a2, iX a3] (Qc := fun A => HPv D dA ad g A Q) (by decide +kernel) (Nat.le_of_ble_eq_true rfl) ?_
  intro p e s m args below meth c A ls X hP hl hnm
  have hnm : meth.name = "add" := hnm
  exact we_J2_add_2 hnm _ _ _ _ _ _ _ _ _ _ hF X hP HA.rf hl
def P_J2_add (BC BS : Nat) (a0 : Nat) (a1 : Nat) (g : GT) (ι : S) (Q : Int32 → GT → S → Prop) : Prop := (gK g a0 = 18 ∧ (∀ ι2, ι2 = up2 ι a0 0 ((ι a0 0) + 1) → (∃ b4 d5, ((0 + b4 ≤ BC ∧ 0 + d5 ≤ BS) ∧ (P_J2_add_2 b4 d5 a0 a1 (gR g a0 1) (ι2 a0 2) g ι2 (fun g7 ι8 => (Q 1 g7 ι8)))))))
set_option maxHeartbeats 2000000 in
theorem we_J2_add (hnm : meth.name = "add") {BC BS : Nat} {Q : Int32 → GT → S → Prop} : ∀ (a0 : Nat) (a1 : Nat) (g : GT) (ι : S) (ad : Nat → Nat) (H : Heap) (locs : List Loc) (ls : Array Slot), P_J2_add BC BS a0 a1 g ι Q → CX p s m args c meth cJ2_add 2 (some .boolean) RJ2 D dA ad A → PW D dA A s.heap ad (HS g ι) H locs → HA ad0 g0 ad g → LH ad ls 2 [(0, pX a0), (1, pX a1)] → WHi p l e ({ frames := 6, cells := BC, slots := BS, locals := 170 } : Room) s m args below meth c D dA ad0 g0 A Q BC BS H locs (0) (0) (F0 m 0 ls []) := by
  intro a0 a1 g ι ad H locs ls hF X hP hag hl
  unfold P_J2_add at hF
  refine ph_aload_n (n := 0) X hl dJ2_add_0 rfl rfl ?_
  refine ph_dup_r X dJ2_add_1 ?_
  obtain ⟨hm1, hF⟩ := hF
  refine hg_getiX 17 0 X in_J2 hP hm1 q485 q486 dJ2_add_2 ?_
  refine lv_iconst (v := 1) X.1 X.2.1 dJ2_add_5 (by decide) ?_
  refine lv_iadd X.1 X.2.1 dJ2_add_6 ?_
  refine hg_putiX 17 0 X in_J2 tyJ2 tyJ2_ok nmJ2 hP hm1 q485 q486 dJ2_add_7 rfl rfl hF (fun H locs ι2 hP hF => ?_)
  refine ph_aload_n (n := 0) X hl dJ2_add_10 rfl rfl ?_
  refine ph_aload_n (n := 1) X hl dJ2_add_11 rfl rfl ?_
  refine ph_aload_n (n := 0) X hl dJ2_add_12 rfl rfl ?_
  have hv3 := gR_lt hP a0 1
  refine cg_getr 17 1 X in_J2 hP hm1 q482 dJ2_add_13 ?_
  refine ph_aload_n (n := 0) X hl dJ2_add_16 rfl rfl ?_
  refine cg_geti 17 2 X in_J2 hP hm1 q483 dJ2_add_17 ?_
  obtain ⟨b4, d5, hF⟩ := hF
  obtain ⟨hd6, hF⟩ := hF
  have hl : LH ad ls 2 [] := lh_sub hl [] rfl
  refine hg_callVv 17 [pX a1, pX (gR g a0 1), iX (ι2 a0 2)] [] X hP hm1 (met_J2_add_2 l D dA ad _ _ _ _ _ hF) (cwV 3 X.2.2.2.2.1 (lw_V q624 q626 qs1 q102 q627) rfl rfl rfl (by decide +kernel) ⟨Nat.le_of_ble_eq_true rfl, Nat.le_of_ble_eq_true rfl⟩) rfl hag hl ltln ltsn (k8 := 0) (cs0 (k := 0)) (by decide) hd6 dJ2_add_20 rfl (fun ad g7 ι8 H locs hF X hP hag he9 hl => ?_)
  show WHi p l e ({ frames := 6, cells := BC, slots := BS, locals := 170 } : Room) s m args below meth c D dA ad0 g0 A Q BC BS H locs (0 + b4) (0 + d5) (F0 m 23 ls [])
  refine lv_iconst (v := 1) X.1 X.2.1 dJ2_add_23 (by decide) ?_
  exact hg_zret X hP hag (isB_nar isB_1) hF hd6.1 hd6.2 dJ2_add_24
set_option maxHeartbeats 2000000 in
theorem met_J2_add (l : Launch) (D : va_G) (dA : Nat → ClassId) (ad : Nat → Nat) (BC BS : Nat) (g : GT) (ι : S) (sz : Nat) {a0 : Nat} {a1 : Nat} {Q : Int32 → GT → S → Prop} (hF : P_J2_add BC BS a0 a1 g ι Q) : CHi l yJ2_add cJ2_add 2 .boolean ({ frames := 6, cells := BC, slots := BS, locals := 170 } : Room) D dA ad g ι sz [pX a0, pX a1] Q BC BS := by
  refine ph_enter [pX a0, pX a1] (Qc := fun A => HPi D dA ad g A Q) (by decide +kernel) (Nat.le_of_ble_eq_true rfl) ?_
  intro p e s m args below meth c A ls X hP hl hnm
  have hnm : meth.name = "add" := hnm
  exact we_J2_add hnm _ _ _ _ _ _ _ _ hF X hP HA.rf hl
def P_J2_fastRemove_34 (BC BS : Nat) (Q : GT → S → Prop) (x0 : Nat) (x1 : Nat) (x3 : Int32) (g : GT) (ι : S) (uc us : Nat) : Prop := (gK g x0 = 18 ∧ (∀ ι2, ι2 = up2 ι x0 2 x3 → (gK g x1 = 110 ∧ (vp_in x3 (gL g x1) ∧ (∀ g5, g5 = setg g x1 x3.toNatClampNeg 0 → ((uc ≤ BC ∧ us ≤ BS) ∧ (Q g5 ι2)))))))
def P_J2_fastRemove (BC BS : Nat) (a0 : Nat) (a1 : Nat) (a2 : Int32) (g : GT) (ι : S) (Q : GT → S → Prop) : Prop := (gK g a0 = 18 ∧ (∀ ι9, ι9 = up2 ι a0 0 ((ι a0 0) + 1) → ((((ι9 a0 2) - 1) ≤ a2 → (P_J2_fastRemove_34 BC BS Q a0 a1 ((ι9 a0 2) - 1) g ι9 (0) (0))) ∧ (¬ ((ι9 a0 2) - 1) ≤ a2 → (gK g a1 = 110 ∧ (¬ (a2 + 1) < 0 ∧ (¬ a2 < 0 ∧ (¬ (((ι9 a0 2) - 1) - a2) < 0 ∧ ((a2 + 1).toNatClampNeg + (((ι9 a0 2) - 1) - a2).toNatClampNeg ≤ gL g a1 ∧ (a2.toNatClampNeg + (((ι9 a0 2) - 1) - a2).toNatClampNeg ≤ gL g a1 ∧ ((∀ i, i < (((ι9 a0 2) - 1) - a2).toNatClampNeg → gR g a1 ((a2 + 1).toNatClampNeg + i) = 0 ∨ isElt (gK g (gR g a1 ((a2 + 1).toNatClampNeg + i)))) ∧ (∀ g17, g17 = setga g a1 (va_cpy (gR g a1) (gR g a1) ((a2 + 1).toNatClampNeg) a2.toNatClampNeg ((((ι9 a0 2) - 1) - a2).toNatClampNeg)) → (P_J2_fastRemove_34 BC BS Q a0 a1 ((ι9 a0 2) - 1) g17 ι9 (0) (0))))))))))))))
set_option maxHeartbeats 2000000 in
theorem w_J2_fastRemove_34 (hnm : meth.name = "fastRemove") {BC BS : Nat} {Q : GT → S → Prop} : ∀ (x0 : Nat) (x1 : Nat) (x3 : Int32) (g : GT) (ι : S) (uc us : Nat) (ad : Nat → Nat) (H : Heap) (locs : List Loc) (ls : Array Slot), P_J2_fastRemove_34 BC BS Q x0 x1 x3 g ι uc us → CX p s m args c meth cJ2_fastRemove 4 none RJ2 D dA ad A → PW D dA A s.heap ad (HS g ι) H locs → HA ad0 g0 ad g → LH ad ls 4 [(0, pX x0), (1, pX x1), (3, iX x3)] → WHv p l e ({ frames := 1, cells := BC, slots := BS, locals := 60 } : Room) s m args below meth c D dA ad0 g0 A Q BC BS H locs (uc) (us) (F0 m 34 ls []) := by
  intro x0 x1 x3 g ι uc us ad H locs ls hF X hP hag hl
  unfold P_J2_fastRemove_34 at hF
  refine ph_aload_n (n := 1) X hl dJ2_fastRemove_34 rfl rfl ?_
  refine ph_aload_n (n := 0) X hl dJ2_fastRemove_35 rfl rfl ?_
  refine ph_iload_n (n := 2) X hl dJ2_fastRemove_36 rfl rfl ?_
  refine ph_dup_x1_ri X dJ2_fastRemove_37 ?_
  obtain ⟨hm1, hF⟩ := hF
  refine hg_puti 17 2 X in_J2 tyJ2 tyJ2_ok nmJ2 hP hm1 q483 dJ2_fastRemove_38 rfl rfl hF (fun H locs ι2 hP hF => ?_)
  refine ph_null X dJ2_fastRemove_41 ?_
  obtain ⟨hm3, hF⟩ := hF
  obtain ⟨hr4, hF⟩ := hF
  refine hg_aast X hP hm3 hr4 (k := x3.toNatClampNeg) rfl (Or.inl rfl) dJ2_fastRemove_42 hF (fun H locs g5 hP he6 hF => ?_)
  have hag : HA ad0 g0 ad g5 := ⟨by rw [he6.1]; exact hag.1, hag.2⟩
  obtain ⟨hd7, hF⟩ := hF
  exact hg_vret X hP hag hF hd7.1 hd7.2 dJ2_fastRemove_43
set_option maxHeartbeats 2000000 in
theorem we_J2_fastRemove (hnm : meth.name = "fastRemove") {BC BS : Nat} {Q : GT → S → Prop} : ∀ (a0 : Nat) (a1 : Nat) (a2 : Int32) (g : GT) (ι : S) (ad : Nat → Nat) (H : Heap) (locs : List Loc) (ls : Array Slot), P_J2_fastRemove BC BS a0 a1 a2 g ι Q → CX p s m args c meth cJ2_fastRemove 4 none RJ2 D dA ad A → PW D dA A s.heap ad (HS g ι) H locs → HA ad0 g0 ad g → LH ad ls 4 [(0, pX a0), (1, pX a1), (2, iX a2)] → WHv p l e ({ frames := 1, cells := BC, slots := BS, locals := 60 } : Room) s m args below meth c D dA ad0 g0 A Q BC BS H locs (0) (0) (F0 m 0 ls []) := by
  intro a0 a1 a2 g ι ad H locs ls hF X hP hag hl
  unfold P_J2_fastRemove at hF
  refine ph_aload_n (n := 0) X hl dJ2_fastRemove_0 rfl rfl ?_
  refine ph_dup_r X dJ2_fastRemove_1 ?_
  obtain ⟨hm8, hF⟩ := hF
  refine hg_getiX 17 0 X in_J2 hP hm8 q485 q486 dJ2_fastRemove_2 ?_
  refine lv_iconst (v := 1) X.1 X.2.1 dJ2_fastRemove_5 (by decide) ?_
  refine lv_iadd X.1 X.2.1 dJ2_fastRemove_6 ?_
  refine hg_putiX 17 0 X in_J2 tyJ2 tyJ2_ok nmJ2 hP hm8 q485 q486 dJ2_fastRemove_7 rfl rfl hF (fun H locs ι9 hP hF => ?_)
  refine ph_aload_n (n := 0) X hl dJ2_fastRemove_10 rfl rfl ?_
  refine cg_geti 17 2 X in_J2 hP hm8 q483 dJ2_fastRemove_11 ?_
  refine lv_iconst (v := 1) X.1 X.2.1 dJ2_fastRemove_14 (by decide) ?_
  refine lv_isub X.1 X.2.1 dJ2_fastRemove_15 ?_
  refine lv_dup X.1 X.2.1 dJ2_fastRemove_16 rfl ?_
  refine ph_istore_n X hl dJ2_fastRemove_17 rfl (by decide) rfl (fun ls hl => ?_)
  refine ph_iload_n (n := 3) X hl dJ2_fastRemove_18 rfl rfl ?_
  refine lv_icmp_le (tgt := 34) X.1 X.2.1 dJ2_fastRemove_19 (by decide) (fun c19 => ?_) (fun c19 => ?_)
  · have hF := hF.1 c19
    exact w_J2_fastRemove_34 hnm _ _ _ _ _ _ _ _ _ _ _ hF X hP hag (lh_sub hl [1, 2, 0] rfl)
  · have hF := hF.2 c19
    refine ph_aload_n (n := 2) X hl dJ2_fastRemove_22 rfl rfl ?_
    refine ph_iload_n (n := 3) X hl dJ2_fastRemove_23 rfl rfl ?_
    refine lv_iconst (v := 1) X.1 X.2.1 dJ2_fastRemove_24 (by decide) ?_
    refine lv_iadd X.1 X.2.1 dJ2_fastRemove_25 ?_
    refine ph_aload_n (n := 2) X hl dJ2_fastRemove_26 rfl rfl ?_
    refine ph_iload_n (n := 3) X hl dJ2_fastRemove_27 rfl rfl ?_
    refine ph_iload_n (n := 0) X hl dJ2_fastRemove_28 rfl rfl ?_
    refine ph_iload_n (n := 3) X hl dJ2_fastRemove_29 rfl rfl ?_
    refine lv_isub X.1 X.2.1 dJ2_fastRemove_30 ?_
    obtain ⟨hm10, hF⟩ := hF
    obtain ⟨hn11, hF⟩ := hF
    obtain ⟨hn12, hF⟩ := hF
    obtain ⟨hn13, hF⟩ := hF
    obtain ⟨hr14, hF⟩ := hF
    obtain ⟨hr15, hF⟩ := hF
    obtain ⟨hc16, hF⟩ := hF
    refine hg_copyq (a := (a2 + 1).toNatClampNeg) (b := a2.toNatClampNeg) (k := (((ι9 a0 2) - 1) - a2).toNatClampNeg) X hP hl q904 q289 q288 q114 hm10 hm10 hn11 hn12 hn13 rfl rfl rfl hr14 hr15 hc16 (Nat.le_of_ble_eq_true rfl) (Nat.le_trans (Nat.add_le_add (cs0 (k := 0)) acw) (Nat.le_of_ble_eq_true rfl)) dJ2_fastRemove_31 hF (fun H locs g17 hP he18 hF => ?_)
    have hag : HA ad0 g0 ad g17 := ⟨by rw [he18.1]; exact hag.1, hag.2⟩
    exact w_J2_fastRemove_34 hnm _ _ _ _ _ _ _ _ _ _ _ hF X hP hag (lh_sub hl [1, 2, 0] rfl)
set_option maxHeartbeats 2000000 in
theorem met_J2_fastRemove (l : Launch) (D : va_G) (dA : Nat → ClassId) (ad : Nat → Nat) (BC BS : Nat) (g : GT) (ι : S) (sz : Nat) {a0 : Nat} {a1 : Nat} {a2 : Int32} {Q : GT → S → Prop} (hF : P_J2_fastRemove BC BS a0 a1 a2 g ι Q) : CHv l yJ2_fastRemove cJ2_fastRemove 4 ({ frames := 1, cells := BC, slots := BS, locals := 60 } : Room) D dA ad g ι sz [pX a0, pX a1, iX a2] Q BC BS := by
  refine ph_enter [pX a0, pX a1, iX a2] (Qc := fun A => HPv D dA ad g A Q) (by decide +kernel) (Nat.le_of_ble_eq_true rfl) ?_
  intro p e s m args below meth c A ls X hP hl hnm
  have hnm : meth.name = "fastRemove" := hnm
  exact we_J2_fastRemove hnm _ _ _ _ _ _ _ _ _ hF X hP HA.rf hl
def P_J2_remove (BC BS : Nat) (a0 : Nat) (a1 : Int32) (g : GT) (ι : S) (Q : Nat → GT → S → Prop) : Prop := (gK g a0 = 18 ∧ (P_J18_checkIndex g a1 (ι a0 2) ι (fun r2 ι3 => (gK g (gR g a0 1) = 110 ∧ (vp_in a1 (gL g (gR g a0 1)) ∧ (∃ b9 d10, ((0 + b9 ≤ BC ∧ 0 + d10 ≤ BS) ∧ (P_J2_fastRemove b9 d10 a0 (gR g a0 1) a1 g ι3 (fun g12 ι13 => (Q (gR g (gR g a0 1) a1.toNatClampNeg) g12 ι13))))))))))
set_option maxHeartbeats 2000000 in
theorem we_J2_remove (hnm : meth.name = "remove") {BC BS : Nat} {Q : Nat → GT → S → Prop} : ∀ (a0 : Nat) (a1 : Int32) (g : GT) (ι : S) (ad : Nat → Nat) (H : Heap) (locs : List Loc) (ls : Array Slot), P_J2_remove BC BS a0 a1 g ι Q → CX p s m args c meth cJ2_remove 4 (some (.object "java/lang/Object")) RJ2 D dA ad A → PW D dA A s.heap ad (HS g ι) H locs → HA ad0 g0 ad g → LH ad ls 4 [(0, pX a0), (1, iX a1)] → WHq p l e ({ frames := 2, cells := BC, slots := BS, locals := 83 } : Room) s m args below meth c D dA ad0 g0 A Q BC BS H locs (0) (0) (F0 m 0 ls []) := by
  intro a0 a1 g ι ad H locs ls hF X hP hag hl
  unfold P_J2_remove at hF
  refine ph_iload_n (n := 1) X hl dJ2_remove_0 rfl rfl ?_
  refine ph_aload_n (n := 0) X hl dJ2_remove_1 rfl rfl ?_
  obtain ⟨hm1, hF⟩ := hF
  refine cg_geti 17 2 X in_J2 hP hm1 q483 dJ2_remove_2 ?_
  refine cg_callSi [iX a1, iX (ι a0 2)] X hP (met_J18_checkIndex l D dA ad g _ _ hF) (va_cwS 2 X.2.2.2.2.1 (lw_S q781 q782 q125 q783) rfl rfl rfl (by decide +kernel) ⟨Nat.le_of_ble_eq_true rfl, Nat.le_of_ble_eq_true rfl⟩) rfl hl (k8 := 0) (cs0 (k := 0)) (by decide) ⟨Nat.zero_le _, Nat.zero_le _⟩ dJ2_remove_5 rfl (fun r2 ι3 H locs hF hP => ?_)
  refine lv_pop X.1 X.2.1 dJ2_remove_8 rfl ?_
  refine ph_aload_n (n := 0) X hl dJ2_remove_9 rfl rfl ?_
  have hv5 := gR_lt hP a0 1
  refine cg_getr 17 1 X in_J2 hP hm1 q482 dJ2_remove_10 ?_
  refine ph_astore_n X hl dJ2_remove_13 rfl (by decide) rfl (fun ls hl => ?_)
  refine ph_aload_n (n := 0) X hl dJ2_remove_14 rfl rfl ?_
  refine ph_iload_n (n := 2) X hl dJ2_remove_15 rfl rfl ?_
  obtain ⟨hm6, hF⟩ := hF
  obtain ⟨hr7, hF⟩ := hF
  have hv8 := gR_lt hP (gR g a0 1) a1.toNatClampNeg
  refine cg_aaldO X hP hm6 hr7 (k := a1.toNatClampNeg) rfl dJ2_remove_16 ?_
  refine ph_astore_n X hl dJ2_remove_17 rfl (by decide) rfl (fun ls hl => ?_)
  refine ph_aload_n (n := 2) X hl dJ2_remove_18 rfl rfl ?_
  refine ph_aload_n (n := 1) X hl dJ2_remove_19 rfl rfl ?_
  refine ph_iload_n (n := 3) X hl dJ2_remove_20 rfl rfl ?_
  obtain ⟨b9, d10, hF⟩ := hF
  obtain ⟨hd11, hF⟩ := hF
  have hl : LH ad ls 4 [(3, pX (gR g (gR g a0 1) a1.toNatClampNeg))] := lh_sub hl [0] rfl
  refine hg_callVv 17 [pX (gR g a0 1), iX a1] [] X hP hm1 (met_J2_fastRemove l D dA ad _ _ _ _ _ hF) (cwV 2 X.2.2.2.2.1 (lw_V q900 q902 qs8 q102 q903) rfl rfl rfl (by decide +kernel) ⟨Nat.le_of_ble_eq_true rfl, Nat.le_of_ble_eq_true rfl⟩) rfl hag hl (ltlp hv8 ltln) ltsn (k8 := 0) (cs0 (k := 0)) (by decide) hd11 dJ2_remove_21 rfl (fun ad g12 ι13 H locs hF X hP hag he14 hl => ?_)
  show WHq p l e ({ frames := 2, cells := BC, slots := BS, locals := 83 } : Room) s m args below meth c D dA ad0 g0 A Q BC BS H locs (0 + b9) (0 + d10) (F0 m 24 ls [])
  refine ph_aload_n (n := 0) X hl dJ2_remove_24 rfl rfl ?_
  exact hg_aret X hP hag (Or.inl ⟨_, rfl⟩) (ltm hv8 he14) hF hd11.1 hd11.2 dJ2_remove_25
set_option maxHeartbeats 2000000 in
theorem met_J2_remove (l : Launch) (D : va_G) (dA : Nat → ClassId) (ad : Nat → Nat) (BC BS : Nat) (g : GT) (ι : S) (sz : Nat) {a0 : Nat} {a1 : Int32} {Q : Nat → GT → S → Prop} (hF : P_J2_remove BC BS a0 a1 g ι Q) : CHq l yJ2_remove cJ2_remove 4 (.object "java/lang/Object") ({ frames := 2, cells := BC, slots := BS, locals := 83 } : Room) D dA ad g ι sz [pX a0, iX a1] Q BC BS := by
  refine ph_enter [pX a0, iX a1] (Qc := fun A => HPq D dA ad g A Q) (by decide +kernel) (Nat.le_of_ble_eq_true rfl) ?_
  intro p e s m args below meth c A ls X hP hl hnm
  have hnm : meth.name = "remove" := hnm
  exact we_J2_remove hnm _ _ _ _ _ _ _ _ hF X hP HA.rf hl
def P_X5_keeps_38 (BC BS : Nat) (Q : GT → S → Prop) (x0 : Nat) (g : GT) (ι : S) (uc us : Nat) : Prop := (gK g x0 = 5 ∧ ((uc ≤ BC ∧ us ≤ BS) ∧ (gK g (gR g x0 1) = 18 ∧ (P_J2_get g (gR g x0 1) (ι x0 6) ι (fun r4 ι5 => (gK g r4 = 6 ∧ (P_X6_like g r4 (gR g x0 0) ι5 (fun ι11 => (∀ ι13, ι13 = up2 ι11 x0 6 ((ι11 x0 6) + 1) → (Q g ι13))))))))))
def P_X5_keeps (BC BS : Nat) (a0 : Nat) (g : GT) (ι : S) (Q : GT → S → Prop) : Prop := (gK g a0 = 5 ∧ ((¬ (ι a0 6) = 40 → (P_X5_keeps_38 BC BS Q a0 g ι (0) (0))) ∧ ((ι a0 6) = 40 → (a0 < 200 + gN g ∧ (∃ b18 d19, ((0 + b18 ≤ BC ∧ 0 + d19 ≤ BS) ∧ (gK g (gR g a0 1) = 18 ∧ (P_J2_remove b18 d19 (gR g a0 1) 0 g ι (fun r24 g21 ι22 => (gK g21 r24 = 6 ∧ (∃ b27 d28, ((0 + b18 + b27 ≤ BC ∧ 0 + d19 + d28 ≤ BS) ∧ (gK g21 (gR g a0 1) = 18 ∧ (P_J2_add b27 d28 (gR g a0 1) r24 g21 ι22 (fun r33 g30 ι31 => (gK g30 a0 = 5 ∧ (∀ ι36, ι36 = up2 ι31 a0 6 ((ι31 a0 6) - 1) → (P_X5_keeps_38 BC BS Q a0 g30 ι36 (0 + b18 + b27) (0 + d19 + d28)))))))))))))))))))
set_option maxHeartbeats 2000000 in
theorem w_X5_keeps_38 (hnm : meth.name = "keeps") {BC BS : Nat} {Q : GT → S → Prop} : ∀ (x0 : Nat) (g : GT) (ι : S) (uc us : Nat) (ad : Nat → Nat) (H : Heap) (locs : List Loc) (ls : Array Slot), P_X5_keeps_38 BC BS Q x0 g ι uc us → CX p s m args c meth cX5_keeps 1 none RX5 D dA ad A → PW D dA A s.heap ad (HS g ι) H locs → HA ad0 g0 ad g → LH ad ls 1 [(0, pX x0)] → WHv p l e ({ frames := 7, cells := BC, slots := BS, locals := 191 } : Room) s m args below meth c D dA ad0 g0 A Q BC BS H locs (uc) (us) (F0 m 38 ls []) := by
  intro x0 g ι uc us ad H locs ls hF X hP hag hl
  unfold P_X5_keeps_38 at hF
  refine ph_aload_n (n := 0) X hl dX5_keeps_38 rfl rfl ?_
  obtain ⟨hm1, hF⟩ := hF
  have hv2 := gR_lt hP x0 1
  refine cg_getr 4 1 X in_X5 hP hm1 q678 dX5_keeps_39 ?_
  refine ph_aload_n (n := 0) X hl dX5_keeps_42 rfl rfl ?_
  refine cg_geti 4 6 X in_X5 hP hm1 q688 dX5_keeps_43 ?_
  obtain ⟨hd3, hF⟩ := hF
  obtain ⟨hm7, hF⟩ := hF
  refine cg_callVq 17 [iX (ι x0 6)] X hP hm7 (met_J2_get l D dA ad g _ _ hF) (cwV 1 X.2.2.2.2.1 (lw_V q905 q778 q779 q102 q780) rfl rfl rfl (by decide +kernel) ⟨Nat.le_of_ble_eq_true rfl, Nat.le_of_ble_eq_true rfl⟩) rfl hl (k8 := 0) (cs0 (k := 0)) (by decide) hd3 dX5_keeps_46 rfl (fun r4 ι5 H locs hF hv6 hP => ?_)
  obtain ⟨hm8, hF⟩ := hF
  refine cg_castS 5 X hP hm8 q574 dX5_keeps_49 ?_
  refine ph_aload_n (n := 0) X hl dX5_keeps_52 rfl rfl ?_
  have hv9 := gR_lt hP x0 0
  refine cg_getr 4 0 X in_X5 hP hm1 q676 dX5_keeps_53 ?_
  refine cg_callVv 5 [pX (gR g x0 0)] X hP hm8 (met_X6_like l D dA ad g _ _ hF) (cwV 1 X.2.2.2.2.1 (lw_V q906 q907 q908 q123 q909) rfl rfl rfl (by decide +kernel) ⟨Nat.le_of_ble_eq_true rfl, Nat.le_of_ble_eq_true rfl⟩) rfl hl (k8 := 0) (cs0 (k := 0)) (by decide) hd3 dX5_keeps_56 rfl (fun ι11 H locs hF hP => ?_)
  refine ph_aload_n (n := 0) X hl dX5_keeps_59 rfl rfl ?_
  refine ph_dup_r X dX5_keeps_60 ?_
  refine cg_geti 4 6 X in_X5 hP hm1 q688 dX5_keeps_61 ?_
  refine lv_iconst (v := 1) X.1 X.2.1 dX5_keeps_64 (by decide) ?_
  refine lv_iadd X.1 X.2.1 dX5_keeps_65 ?_
  refine hg_puti 4 6 X in_X5 tyX5 tyX5_ok nmX5 hP hm1 q688 dX5_keeps_66 rfl rfl hF (fun H locs ι13 hP hF => ?_)
  exact hg_vret X hP hag hF hd3.1 hd3.2 dX5_keeps_69
set_option maxHeartbeats 2000000 in
theorem we_X5_keeps (hnm : meth.name = "keeps") {BC BS : Nat} {Q : GT → S → Prop} : ∀ (a0 : Nat) (g : GT) (ι : S) (ad : Nat → Nat) (H : Heap) (locs : List Loc) (ls : Array Slot), P_X5_keeps BC BS a0 g ι Q → CX p s m args c meth cX5_keeps 1 none RX5 D dA ad A → PW D dA A s.heap ad (HS g ι) H locs → HA ad0 g0 ad g → LH ad ls 1 [(0, pX a0)] → WHv p l e ({ frames := 7, cells := BC, slots := BS, locals := 191 } : Room) s m args below meth c D dA ad0 g0 A Q BC BS H locs (0) (0) (F0 m 0 ls []) := by
  intro a0 g ι ad H locs ls hF X hP hag hl
  unfold P_X5_keeps at hF
  refine ph_aload_n (n := 0) X hl dX5_keeps_0 rfl rfl ?_
  obtain ⟨hm14, hF⟩ := hF
  refine cg_geti 4 6 X in_X5 hP hm14 q688 dX5_keeps_1 ?_
  refine lv_bipush (v := 40) X.1 X.2.1 dX5_keeps_4 (by decide) ?_
  refine lv_icmp_ne (tgt := 38) X.1 X.2.1 dX5_keeps_6 (by decide) (fun c39 => ?_) (fun c39 => ?_)
  · have hF := hF.1 c39
    exact w_X5_keeps_38 hnm _ _ _ _ _ _ _ _ _ hF X hP hag hl
  · have hF := hF.2 c39
    refine ph_aload_n (n := 0) X hl dX5_keeps_9 rfl rfl ?_
    have hv15 := gR_lt hP a0 1
    refine cg_getr 4 1 X in_X5 hP hm14 q678 dX5_keeps_10 ?_
    refine ph_aload_n (n := 0) X hl dX5_keeps_13 rfl rfl ?_
    have hv16 := gR_lt hP a0 1
    refine cg_getr 4 1 X in_X5 hP hm14 q678 dX5_keeps_14 ?_
    refine lv_iconst (v := 0) X.1 X.2.1 dX5_keeps_17 (by decide) ?_
    obtain ⟨hx17, hF⟩ := hF
    obtain ⟨b18, d19, hF⟩ := hF
    obtain ⟨hd20, hF⟩ := hF
    obtain ⟨hm38, hF⟩ := hF
    refine hg_callVq 17 [iX 0] [pX (gR g a0 1)] X hP hm38 (met_J2_remove l D dA ad _ _ _ _ _ hF) (cwV 1 X.2.2.2.2.1 (lw_V q896 q897 q898 q102 q899) rfl rfl rfl (by decide +kernel) ⟨Nat.le_of_ble_eq_true rfl, Nat.le_of_ble_eq_true rfl⟩) rfl hag hl (ltlp hx17 ltln) (ltsp hv16 ltsn) (k8 := 1) (csr (cs0 (k := 0))) (by decide) hd20 dX5_keeps_18 rfl (fun r24 ad g21 ι22 H locs hF hv25 X hP hag he23 hl => ?_)
    show WHv p l e ({ frames := 7, cells := BC, slots := BS, locals := 191 } : Room) s m args below meth c D dA ad0 g0 A Q BC BS H locs (0 + b18) (0 + d19) (F0 m 21 ls [rv ad r24, rv ad (gR g a0 1)])
    obtain ⟨hm26, hF⟩ := hF
    refine cg_castS 5 X hP hm26 q574 dX5_keeps_21 ?_
    obtain ⟨b27, d28, hF⟩ := hF
    obtain ⟨hd29, hF⟩ := hF
    obtain ⟨hm37, hF⟩ := hF
    refine hg_callVi 17 [pX r24] [] X hP hm37 (met_J2_add l D dA ad _ _ _ _ _ hF) (cwV 1 X.2.2.2.2.1 (lw_V q620 q621 q622 q102 q623) rfl rfl rfl (by decide +kernel) ⟨Nat.le_of_ble_eq_true rfl, Nat.le_of_ble_eq_true rfl⟩) rfl hag hl (ltlp (ltm hx17 he23) ltln) ltsn (k8 := 0) (cs0 (k := 0)) (by decide) hd29 dX5_keeps_24 rfl (fun r33 ad g30 ι31 H locs hF X hP hag he32 hl => ?_)
    show WHv p l e ({ frames := 7, cells := BC, slots := BS, locals := 191 } : Room) s m args below meth c D dA ad0 g0 A Q BC BS H locs (0 + b18 + b27) (0 + d19 + d28) (F0 m 27 ls [.int r33])
    refine lv_pop X.1 X.2.1 dX5_keeps_27 rfl ?_
    refine ph_aload_n (n := 0) X hl dX5_keeps_28 rfl rfl ?_
    refine ph_dup_r X dX5_keeps_29 ?_
    obtain ⟨hm35, hF⟩ := hF
    refine cg_geti 4 6 X in_X5 hP hm35 q688 dX5_keeps_30 ?_
    refine lv_iconst (v := 1) X.1 X.2.1 dX5_keeps_33 (by decide) ?_
    refine lv_isub X.1 X.2.1 dX5_keeps_34 ?_
    refine hg_puti 4 6 X in_X5 tyX5 tyX5_ok nmX5 hP hm35 q688 dX5_keeps_35 rfl rfl hF (fun H locs ι36 hP hF => ?_)
    exact w_X5_keeps_38 hnm _ _ _ _ _ _ _ _ _ hF X hP hag hl
set_option maxHeartbeats 2000000 in
theorem met_X5_keeps (l : Launch) (D : va_G) (dA : Nat → ClassId) (ad : Nat → Nat) (BC BS : Nat) (g : GT) (ι : S) (sz : Nat) {a0 : Nat} {Q : GT → S → Prop} (hF : P_X5_keeps BC BS a0 g ι Q) : CHv l yX5_keeps cX5_keeps 1 ({ frames := 7, cells := BC, slots := BS, locals := 191 } : Room) D dA ad g ι sz [pX a0] Q BC BS := by
  refine ph_enter [pX a0] (Qc := fun A => HPv D dA ad g A Q) (by decide +kernel) (Nat.le_of_ble_eq_true rfl) ?_
  intro p e s m args below meth c A ls X hP hl hnm
  have hnm : meth.name = "keeps" := hnm
  exact we_X5_keeps hnm _ _ _ _ _ _ _ hF X hP HA.rf hl
end HGA
