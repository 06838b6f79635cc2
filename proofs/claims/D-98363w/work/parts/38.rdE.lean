set_option maxRecDepth 100000
section HGA
variable {p : Program} {l : Launch} {e : Env} {s : State} {m : MethodId} {args : Array Value} {below : List Frame} {meth : Method} {c : Code} {D : va_G} {dA : Nat → ClassId} {ad0 : Nat → Nat} {A : Nat → Prop} {g0 : GT}
def P_X9_bed_289 (BC BS : Nat) (Xq : Nat → Nat → GT → S → Prop) (Q : Nat → GT → S → Prop) (k8 : Nat → Nat → GT → S → Nat → Nat → Prop) (y0 : Nat) (y1 : Int32) (x0 : Nat) (x1 : Nat) (g : GT) (ι : S) (uc us : Nat) : Prop := (x1 < 200 + gN g ∧ (x0 < 200 + gN g ∧ (∃ b3 d4, ((uc + b3 ≤ BC ∧ us + d4 ≤ BS) ∧ (gK g y0 = 8 ∧ (P_X9_check b3 d4 Xq y0 y1 2 g ι (fun g6 ι7 => (∃ b11 d12, ((uc + b3 + b11 ≤ BC ∧ us + d4 + d12 ≤ BS) ∧ (gK g6 x0 = 8 ∧ (P_X9_sleeper b11 d12 Xq x0 x1 g6 ι7 (fun g14 ι15 => (∃ b19 d20, ((uc + b3 + b11 + b19 ≤ BC ∧ us + d4 + d12 + d20 ≤ BS) ∧ (gK g14 x0 = 8 ∧ (P_X9_need b19 d20 Xq x0 21 g14 ι15 (fun g22 ι23 => (k8 x0 x1 g22 ι23 (uc + b3 + b11 + b19) (us + d4 + d12 + d20)))))))))))))))))))
def P_X9_bed_267 (BC BS : Nat) (Xq : Nat → Nat → GT → S → Prop) (Q : Nat → GT → S → Prop) (k8 : Nat → Nat → GT → S → Nat → Nat → Prop) (y0 : Nat) (y1 : Int32) (x0 : Nat) (x1 : Nat) (g : GT) (ι : S) (uc us : Nat) : Prop := (x1 < 200 + gN g ∧ (x0 < 200 + gN g ∧ (∃ b32 d33, ((uc + b32 ≤ BC ∧ us + d33 ≤ BS) ∧ (gK g y0 = 8 ∧ (P_X9_check b32 d33 Xq y0 y1 1 g ι (fun g35 ι36 => (gK g35 x1 = 3 ∧ (gK g35 (gR g35 x1 6) = 18 ∧ (P_J2_size g35 (gR g35 x1 6) ι36 (fun r42 ι43 => ((7 ≤ r42 → (P_X9_bed_289 BC BS Xq Q k8 x0 0 x0 x1 g35 ι43 (uc + b32) (us + d33))) ∧ (¬ 7 ≤ r42 → (P_X9_bed_289 BC BS Xq Q k8 x0 1 x0 x1 g35 ι43 (uc + b32) (us + d33)))))))))))))))
def P_X9_bed_262 (BC BS : Nat) (Xq : Nat → Nat → GT → S → Prop) (Q : Nat → GT → S → Prop) (k8 : Nat → Nat → GT → S → Nat → Nat → Prop) (y0 : Nat) (x0 : Nat) (x1 : Nat) (g : GT) (ι : S) (uc us : Nat) : Prop := (P_X9_bed_267 BC BS Xq Q k8 y0 1 x0 x1 g ι (uc) (us))
def P_X9_bed_209 (BC BS : Nat) (Xq : Nat → Nat → GT → S → Prop) (Q : Nat → GT → S → Prop) (k8 : Nat → Nat → GT → S → Nat → Nat → Prop) (y0 : Nat) (y1 : Int32) (x0 : Nat) (x1 : Nat) (g : GT) (ι : S) (uc us : Nat) : Prop := (x1 < 200 + gN g ∧ (x0 < 200 + gN g ∧ (∃ b50 d51, ((uc + b50 ≤ BC ∧ us + d51 ≤ BS) ∧ (gK g y0 = 8 ∧ (P_X9_check b50 d51 Xq y0 y1 2 g ι (fun g53 ι54 => (∃ b58 d59, ((uc + b50 + b58 ≤ BC ∧ us + d51 + d59 ≤ BS) ∧ (gK g53 x0 = 8 ∧ (P_X9_go b58 d59 x0 g53 ι54 (fun g61 ι62 => (∃ b66 d67, ((uc + b50 + b58 + b66 ≤ BC ∧ us + d51 + d59 + d67 ≤ BS) ∧ (gK g61 x0 = 8 ∧ (P_X9_never b66 d67 Xq x0 x1 g61 ι62 (fun g69 ι70 => (∃ b74 d75, ((uc + b50 + b58 + b66 + b74 ≤ BC ∧ us + d51 + d59 + d67 + d75 ≤ BS) ∧ (gK g69 x0 = 8 ∧ (P_X9_need b74 d75 Xq x0 21 g69 ι70 (fun g77 ι78 => (k8 x0 x1 g77 ι78 (uc + b50 + b58 + b66 + b74) (us + d51 + d59 + d67 + d75))))))))))))))))))))))))
def P_X9_bed_162 (BC BS : Nat) (Xq : Nat → Nat → GT → S → Prop) (Q : Nat → GT → S → Prop) (k8 : Nat → Nat → GT → S → Nat → Nat → Prop) (y0 : Nat) (y1 : Int32) (x0 : Nat) (x1 : Nat) (x2 : Int32) (g : GT) (ι : S) (uc us : Nat) : Prop := (x1 < 200 + gN g ∧ (x0 < 200 + gN g ∧ (∃ b88 d89, ((uc + b88 ≤ BC ∧ us + d89 ≤ BS) ∧ (gK g y0 = 8 ∧ (P_X9_check b88 d89 Xq y0 y1 5 g ι (fun g91 ι92 => (∃ b96 d97, ((uc + b88 + b96 ≤ BC ∧ us + d89 + d97 ≤ BS) ∧ (gK g91 x0 = 8 ∧ (P_X9_go b96 d97 x0 g91 ι92 (fun g99 ι100 => (gK g99 x1 = 3 ∧ (∀ ι105, ι105 = up2 ι100 x1 4 ((ι100 x1 4) ||| (1 <<< ((x2 : Int32) &&& 31))) → (∃ b106 d107, ((uc + b88 + b96 + b106 ≤ BC ∧ us + d89 + d97 + d107 ≤ BS) ∧ (gK g99 x0 = 8 ∧ (P_X9_need b106 d107 Xq x0 21 g99 ι105 (fun g109 ι110 => (k8 x0 x1 g109 ι110 (uc + b88 + b96 + b106) (us + d89 + d97 + d107)))))))))))))))))))))
def P_X9_bed_8 (BC BS : Nat) (Xq : Nat → Nat → GT → S → Prop) (Q : Nat → GT → S → Prop) : Nat → Nat → Nat → GT → S → Nat → Nat → Prop
  | 0, _, _, _, _, _, _ => False
  | n + 1, x0, x1, g, ι, uc, us => (gK g x0 = 8 ∧ ((100 ≤ (gR g x0 6) ∧ (gR g x0 6) < 105) ∧ (((gR g x0 6) = 104 → ((uc ≤ BC ∧ us ≤ BS) ∧ (x1 < 200 + gN g ∧ (Q x1 g ι)))) ∧ (¬ (gR g x0 6) = 104 → (x1 < 200 + gN g ∧ (x0 < 200 + gN g ∧ (∃ b125 d126, ((uc + b125 ≤ BC ∧ us + d126 ≤ BS) ∧ (P_X9_begins b125 d126 Xq x0 1 0 g ι (fun r131 g128 ι129 => ((r131 = 0 → (∃ b133 d134, ((uc + b125 + b133 ≤ BC ∧ us + d126 + d134 ≤ BS) ∧ (gK g128 x0 = 8 ∧ (P_X9_begins b133 d134 Xq x0 3 1 g128 ι129 (fun r139 g136 ι137 => ((r139 = 0 → (∃ b141 d142, ((uc + b125 + b133 + b141 ≤ BC ∧ us + d126 + d134 + d142 ≤ BS) ∧ (gK g136 x0 = 8 ∧ (P_X9_begins b141 d142 Xq x0 5 2 g136 ι137 (fun r147 g144 ι145 => ((r147 = 0 → (∃ b149 d150, ((uc + b125 + b133 + b141 + b149 ≤ BC ∧ us + d126 + d134 + d142 + d150 ≤ BS) ∧ (gK g144 x0 = 8 ∧ (P_X9_begins b149 d150 Xq x0 7 3 g144 ι145 (fun r155 g152 ι153 => ((r155 = 0 → (gK g152 x0 = 8 ∧ (P_X9_is g152 x0 9 ι153 (fun r157 ι158 => ((r157 = 0 → (P_X9_is g152 x0 11 ι158 (fun r161 ι162 => ((r161 = 0 → (P_X9_is g152 x0 13 ι162 (fun r164 ι165 => ((¬ r164 = 0 → (P_X9_bed_262 BC BS Xq Q (fun z0 z1 z2 z3 z4 z5 => P_X9_bed_8 BC BS Xq Q  n z0 z1 z2 z3 z4 z5) x0 x0 x1 g152 ι165 (uc + b125 + b133 + b141 + b149) (us + d126 + d134 + d142 + d150))) ∧ (r164 = 0 → (P_X9_is g152 x0 15 ι165 (fun r167 ι168 => ((¬ r167 = 0 → (P_X9_bed_262 BC BS Xq Q (fun z0 z1 z2 z3 z4 z5 => P_X9_bed_8 BC BS Xq Q  n z0 z1 z2 z3 z4 z5) x0 x0 x1 g152 ι168 (uc + b125 + b133 + b141 + b149) (us + d126 + d134 + d142 + d150))) ∧ (r167 = 0 → (P_X9_is g152 x0 17 ι168 (fun r170 ι171 => ((¬ r170 = 0 → (P_X9_bed_262 BC BS Xq Q (fun z0 z1 z2 z3 z4 z5 => P_X9_bed_8 BC BS Xq Q  n z0 z1 z2 z3 z4 z5) x0 x0 x1 g152 ι171 (uc + b125 + b133 + b141 + b149) (us + d126 + d134 + d142 + d150))) ∧ (r170 = 0 → (P_X9_is g152 x0 19 ι171 (fun r173 ι174 => ((r173 = 0 → (P_X9_bed_267 BC BS Xq Q (fun z0 z1 z2 z3 z4 z5 => P_X9_bed_8 BC BS Xq Q  n z0 z1 z2 z3 z4 z5) x0 0 x0 x1 g152 ι174 (uc + b125 + b133 + b141 + b149) (us + d126 + d134 + d142 + d150))) ∧ (¬ r173 = 0 → (P_X9_bed_262 BC BS Xq Q (fun z0 z1 z2 z3 z4 z5 => P_X9_bed_8 BC BS Xq Q  n z0 z1 z2 z3 z4 z5) x0 x0 x1 g152 ι174 (uc + b125 + b133 + b141 + b149) (us + d126 + d134 + d142 + d150))))))))))))))))))) ∧ (¬ r161 = 0 → (gK g152 x1 = 3 ∧ ((6 ≤ (ι162 x1 5) → (P_X9_bed_209 BC BS Xq Q (fun z0 z1 z2 z3 z4 z5 => P_X9_bed_8 BC BS Xq Q  n z0 z1 z2 z3 z4 z5) x0 0 x0 x1 g152 ι162 (uc + b125 + b133 + b141 + b149) (us + d126 + d134 + d142 + d150))) ∧ (¬ 6 ≤ (ι162 x1 5) → (P_X9_bed_209 BC BS Xq Q (fun z0 z1 z2 z3 z4 z5 => P_X9_bed_8 BC BS Xq Q  n z0 z1 z2 z3 z4 z5) x0 1 x0 x1 g152 ι162 (uc + b125 + b133 + b141 + b149) (us + d126 + d134 + d142 + d150)))))))))) ∧ (¬ r157 = 0 → (∃ b183 d184, ((uc + b125 + b133 + b141 + b149 + b183 ≤ BC ∧ us + d126 + d134 + d142 + d150 + d184 ≤ BS) ∧ (P_X9_go b183 d184 x0 g152 ι158 (fun g186 ι187 => (∃ b191 d192, ((uc + b125 + b133 + b141 + b149 + b183 + b191 ≤ BC ∧ us + d126 + d134 + d142 + d150 + d184 + d192 ≤ BS) ∧ (gK g186 x0 = 8 ∧ (P_X9_numberHere b191 d192 Xq x0 1 6 g186 ι187 (fun r197 g194 ι195 => (gK g194 x1 = 3 ∧ ((¬ (((ι195 x1 4) >>> ((r197 : Int32) &&& 31)) &&& 1) = 0 → (P_X9_bed_162 BC BS Xq Q (fun z0 z1 z2 z3 z4 z5 => P_X9_bed_8 BC BS Xq Q  n z0 z1 z2 z3 z4 z5) x0 0 x0 x1 r197 g194 ι195 (uc + b125 + b133 + b141 + b149 + b183 + b191) (us + d126 + d134 + d142 + d150 + d184 + d192))) ∧ ((((ι195 x1 4) >>> ((r197 : Int32) &&& 31)) &&& 1) = 0 → (P_X9_bed_162 BC BS Xq Q (fun z0 z1 z2 z3 z4 z5 => P_X9_bed_8 BC BS Xq Q  n z0 z1 z2 z3 z4 z5) x0 1 x0 x1 r197 g194 ι195 (uc + b125 + b133 + b141 + b149 + b183 + b191) (us + d126 + d134 + d142 + d150 + d184 + d192)))))))))))))))))))) ∧ (¬ r155 = 0 → (∃ b203 d204, ((uc + b125 + b133 + b141 + b149 + b203 ≤ BC ∧ us + d126 + d134 + d142 + d150 + d204 ≤ BS) ∧ (gK g152 x0 = 8 ∧ (P_exprR 10 b203 d204 Xq x0 0 g152 ι153 (fun r209 g206 ι207 => (gK g206 x1 = 3 ∧ (∀ g212, g212 = setg g206 x1 8 r209 → (∃ b214 d215, ((uc + b125 + b133 + b141 + b149 + b203 + b214 ≤ BC ∧ us + d126 + d134 + d142 + d150 + d204 + d215 ≤ BS) ∧ (gK g212 x0 = 8 ∧ (P_X9_need b214 d215 Xq x0 21 g212 ι207 (fun g217 ι218 => (P_X9_bed_8 BC BS Xq Q  n x0 x1 g217 ι218 (uc + b125 + b133 + b141 + b149 + b203 + b214) (us + d126 + d134 + d142 + d150 + d204 + d215)))))))))))))))))))))) ∧ (¬ r147 = 0 → (∃ b226 d227, ((uc + b125 + b133 + b141 + b226 ≤ BC ∧ us + d126 + d134 + d142 + d227 ≤ BS) ∧ (gK g144 x0 = 8 ∧ (P_X9_number b226 d227 Xq x0 0 60 g144 ι145 (fun r232 g229 ι230 => (gK g229 x1 = 3 ∧ (∀ ι235, ι235 = up2 ι230 x1 3 r232 → (∃ b236 d237, ((uc + b125 + b133 + b141 + b226 + b236 ≤ BC ∧ us + d126 + d134 + d142 + d227 + d237 ≤ BS) ∧ (gK g229 x0 = 8 ∧ (P_X9_need b236 d237 Xq x0 21 g229 ι235 (fun g239 ι240 => (P_X9_bed_8 BC BS Xq Q  n x0 x1 g239 ι240 (uc + b125 + b133 + b141 + b226 + b236) (us + d126 + d134 + d142 + d227 + d237)))))))))))))))))))))) ∧ (¬ r139 = 0 → (∃ b248 d249, ((uc + b125 + b133 + b248 ≤ BC ∧ us + d126 + d134 + d249 ≤ BS) ∧ (gK g136 x0 = 8 ∧ (P_X9_number b248 d249 Xq x0 1 600 g136 ι137 (fun r254 g251 ι252 => (gK g251 x1 = 3 ∧ (∀ ι257, ι257 = up2 ι252 x1 2 r254 → (∃ b258 d259, ((uc + b125 + b133 + b248 + b258 ≤ BC ∧ us + d126 + d134 + d249 + d259 ≤ BS) ∧ (gK g251 x0 = 8 ∧ (P_X9_need b258 d259 Xq x0 21 g251 ι257 (fun g261 ι262 => (P_X9_bed_8 BC BS Xq Q  n x0 x1 g261 ι262 (uc + b125 + b133 + b248 + b258) (us + d126 + d134 + d249 + d259)))))))))))))))))))))) ∧ (¬ r131 = 0 → (∃ b270 d271, ((uc + b125 + b270 ≤ BC ∧ us + d126 + d271 ≤ BS) ∧ (gK g128 x0 = 8 ∧ (P_X9_number b270 d271 Xq x0 1 99 g128 ι129 (fun r276 g273 ι274 => (gK g273 x1 = 3 ∧ (∀ ι279, ι279 = up2 ι274 x1 0 r276 → (∃ b280 d281, ((uc + b125 + b270 + b280 ≤ BC ∧ us + d126 + d271 + d281 ≤ BS) ∧ (gK g273 x0 = 8 ∧ (P_X9_number b280 d281 Xq x0 0 9 g273 ι279 (fun r286 g283 ι284 => (gK g283 x1 = 3 ∧ (∀ ι289, ι289 = up2 ι284 x1 1 r286 → (∃ b290 d291, ((uc + b125 + b270 + b280 + b290 ≤ BC ∧ us + d126 + d271 + d281 + d291 ≤ BS) ∧ (gK g283 x0 = 8 ∧ (P_X9_need b290 d291 Xq x0 21 g283 ι289 (fun g293 ι294 => (P_X9_bed_8 BC BS Xq Q  n x0 x1 g293 ι294 (uc + b125 + b270 + b280 + b290) (us + d126 + d271 + d281 + d291)))))))))))))))))))))))))))))))))
def P_X9_bed (BC BS : Nat) (Xq : Nat → Nat → GT → S → Prop) (a0 : Nat) (g : GT) (ι : S) (Q : Nat → GT → S → Prop) : Prop := (a0 < 200 + gN g ∧ ((1 ≤ BC ∧ 10 ≤ BS) ∧ (∀ g304 ι305, g304 = newg g 3 0 → ι305 = newi g ι → (∃ b308 d309, ((1 + b308 ≤ BC ∧ 10 + d309 ≤ BS) ∧ (P_X2_init b308 d309 (200 + gN g) g304 ι305 (fun g311 ι312 => (∃ n9, P_X9_bed_8 BC BS Xq Q n9 a0 (200 + gN g) g311 ι312 (1 + b308) (10 + d309)))))))))
set_option maxHeartbeats 2000000 in
theorem w_X9_bed_289 (hlt : l.stackTraces = false) (hex : ∀ x ∈ c.exceptionTable.toList, False) {Xq : Nat → Nat → GT → S → Prop} {BC BS : Nat} {Q : Nat → GT → S → Prop} {k8 : Nat → Nat → GT → S → Nat → Nat → Prop} (hk8 : ∀ (x0 : Nat) (x1 : Nat) (g : GT) (ι : S) (uc us : Nat) (ad : Nat → Nat) (H : Heap) (locs : List Loc) (ls : Array Slot), k8 x0 x1 g ι uc us → CX p s m args c meth cX9_bed 3 (some (.object "SpoonRow$Bed")) RX9 D dA ad A → PW D dA A s.heap ad (HS g ι) H locs → HA ad0 g0 ad g → LH ad ls 3 [(0, pX x0), (1, pX x1)] → WYq p l e ({ frames := 181, cells := BC, slots := BS, locals := 4892 } : Room) s m args below meth c D dA ad0 g0 A Q Xq BC BS H locs (uc) (us) (F0 m 8 ls [])) : ∀ (y0 : Nat) (y1 : Int32) (x0 : Nat) (x1 : Nat) (g : GT) (ι : S) (uc us : Nat) (ad : Nat → Nat) (H : Heap) (locs : List Loc) (ls : Array Slot), P_X9_bed_289 BC BS Xq Q k8 y0 y1 x0 x1 g ι uc us → CX p s m args c meth cX9_bed 3 (some (.object "SpoonRow$Bed")) RX9 D dA ad A → PW D dA A s.heap ad (HS g ι) H locs → HA ad0 g0 ad g → LH ad ls 3 [(0, pX x0), (1, pX x1)] → WYq p l e ({ frames := 181, cells := BC, slots := BS, locals := 4892 } : Room) s m args below meth c D dA ad0 g0 A Q Xq BC BS H locs (uc) (us) (F0 m 289 ls [.int y1, rv ad y0]) := by
  intro y0 y1 x0 x1 g ι uc us ad H locs ls hF X hP hag hl
  unfold P_X9_bed_289 at hF
  refine lv_iconst (v := 2) X.1 X.2.1 dX9_bed_289 (by decide) ?_
  obtain ⟨hx1, hF⟩ := hF
  obtain ⟨hx2, hF⟩ := hF
  obtain ⟨b3, d4, hF⟩ := hF
  obtain ⟨hd5, hF⟩ := hF
  obtain ⟨hm29, hF⟩ := hF
  refine hy_callVv 7 [iX y1, iX 2] [] X hP hex hm29 (met_X9_check l D dA ad _ _ hlt _ _ _ hF) (cwV 2 X.2.2.2.2.1 (lw_V q1300 q1302 qs27 q127 q1303) rfl rfl rfl (by decide +kernel) ⟨Nat.le_of_ble_eq_true rfl, Nat.le_of_ble_eq_true rfl⟩) rfl hag hl (ltlp hx2 (ltlp hx1 ltln)) ltsn (k8 := 0) (cs0 (k := 0)) (by decide) hd5 hd5.1 hd5.2 dX9_bed_290 rfl (fun ad g6 ι7 H locs hF X hP hag he8 hl => ?_)
  show WYq p l e ({ frames := 181, cells := BC, slots := BS, locals := 4892 } : Room) s m args below meth c D dA ad0 g0 A Q Xq BC BS H locs (uc + b3) (us + d4) (F0 m 293 ls [])
  refine ph_aload_n (n := 0) X hl dX9_bed_293 rfl rfl ?_
  refine ph_aload_n (n := 1) X hl dX9_bed_294 rfl rfl ?_
  obtain ⟨b11, d12, hF⟩ := hF
  obtain ⟨hd13, hF⟩ := hF
  obtain ⟨hm28, hF⟩ := hF
  refine hy_callVv 7 [pX x1] [] X hP hex hm28 (met_X9_sleeper l D dA ad _ _ hlt _ _ _ hF) (cwV 1 X.2.2.2.2.1 (lw_V q1473 q1475 qs39 q127 q1476) rfl rfl rfl (by decide +kernel) ⟨Nat.le_of_ble_eq_true rfl, Nat.le_of_ble_eq_true rfl⟩) rfl hag hl (ltlp (ltm hx2 he8) (ltlp (ltm hx1 he8) ltln)) ltsn (k8 := 0) (cs0 (k := 0)) (by decide) hd13 hd13.1 hd13.2 dX9_bed_295 rfl (fun ad g14 ι15 H locs hF X hP hag he16 hl => ?_)
  show WYq p l e ({ frames := 181, cells := BC, slots := BS, locals := 4892 } : Room) s m args below meth c D dA ad0 g0 A Q Xq BC BS H locs (uc + b3 + b11) (us + d4 + d12) (F0 m 298 ls [])
  refine ph_aload_n (n := 0) X hl dX9_bed_298 rfl rfl ?_
  refine ph_ldcS (i := 10) (tx := ";") X (List.mem_of_getElem? (i := 49) rfl) dX9_bed_299 ?_
  obtain ⟨b19, d20, hF⟩ := hF
  obtain ⟨hd21, hF⟩ := hF
  obtain ⟨hm27, hF⟩ := hF
  refine hy_callVv 7 [pX 21] [] X hP hex hm27 (met_X9_need l D dA ad _ _ hlt _ _ _ hF) (cwV 1 X.2.2.2.2.1 (lw_V q1374 q1376 qs35 q127 q1377) rfl rfl rfl (by decide +kernel) ⟨Nat.le_of_ble_eq_true rfl, Nat.le_of_ble_eq_true rfl⟩) rfl hag hl (ltlp (ltm (ltm hx2 he8) he16) (ltlp (ltm (ltm hx1 he8) he16) ltln)) ltsn (k8 := 0) (cs0 (k := 0)) (by decide) hd21 hd21.1 hd21.2 dX9_bed_301 rfl (fun ad g22 ι23 H locs hF X hP hag he24 hl => ?_)
  show WYq p l e ({ frames := 181, cells := BC, slots := BS, locals := 4892 } : Room) s m args below meth c D dA ad0 g0 A Q Xq BC BS H locs (uc + b3 + b11 + b19) (us + d4 + d12 + d20) (F0 m 304 ls [])
  refine lv_goto (tgt := 8) X.1 X.2.1 dX9_bed_304 (by decide) ?_
  exact hk8 _ _ _ _ _ _ _ _ _ _ hF X hP hag hl
set_option maxHeartbeats 2000000 in
theorem w_X9_bed_267 (hlt : l.stackTraces = false) (hex : ∀ x ∈ c.exceptionTable.toList, False) {Xq : Nat → Nat → GT → S → Prop} {BC BS : Nat} {Q : Nat → GT → S → Prop} {k8 : Nat → Nat → GT → S → Nat → Nat → Prop} (hk8 : ∀ (x0 : Nat) (x1 : Nat) (g : GT) (ι : S) (uc us : Nat) (ad : Nat → Nat) (H : Heap) (locs : List Loc) (ls : Array Slot), k8 x0 x1 g ι uc us → CX p s m args c meth cX9_bed 3 (some (.object "SpoonRow$Bed")) RX9 D dA ad A → PW D dA A s.heap ad (HS g ι) H locs → HA ad0 g0 ad g → LH ad ls 3 [(0, pX x0), (1, pX x1)] → WYq p l e ({ frames := 181, cells := BC, slots := BS, locals := 4892 } : Room) s m args below meth c D dA ad0 g0 A Q Xq BC BS H locs (uc) (us) (F0 m 8 ls [])) : ∀ (y0 : Nat) (y1 : Int32) (x0 : Nat) (x1 : Nat) (g : GT) (ι : S) (uc us : Nat) (ad : Nat → Nat) (H : Heap) (locs : List Loc) (ls : Array Slot), P_X9_bed_267 BC BS Xq Q k8 y0 y1 x0 x1 g ι uc us → CX p s m args c meth cX9_bed 3 (some (.object "SpoonRow$Bed")) RX9 D dA ad A → PW D dA A s.heap ad (HS g ι) H locs → HA ad0 g0 ad g → LH ad ls 3 [(0, pX x0), (1, pX x1)] → WYq p l e ({ frames := 181, cells := BC, slots := BS, locals := 4892 } : Room) s m args below meth c D dA ad0 g0 A Q Xq BC BS H locs (uc) (us) (F0 m 267 ls [.int y1, rv ad y0]) := by
  intro y0 y1 x0 x1 g ι uc us ad H locs ls hF X hP hag hl
  unfold P_X9_bed_267 at hF
  refine lv_iconst (v := 1) X.1 X.2.1 dX9_bed_267 (by decide) ?_
  obtain ⟨hx30, hF⟩ := hF
  obtain ⟨hx31, hF⟩ := hF
  obtain ⟨b32, d33, hF⟩ := hF
  obtain ⟨hd34, hF⟩ := hF
  obtain ⟨hm47, hF⟩ := hF
  refine hy_callVv 7 [iX y1, iX 1] [] X hP hex hm47 (met_X9_check l D dA ad _ _ hlt _ _ _ hF) (cwV 2 X.2.2.2.2.1 (lw_V q1300 q1302 qs27 q127 q1303) rfl rfl rfl (by decide +kernel) ⟨Nat.le_of_ble_eq_true rfl, Nat.le_of_ble_eq_true rfl⟩) rfl hag hl (ltlp hx31 (ltlp hx30 ltln)) ltsn (k8 := 0) (cs0 (k := 0)) (by decide) hd34 hd34.1 hd34.2 dX9_bed_268 rfl (fun ad g35 ι36 H locs hF X hP hag he37 hl => ?_)
  show WYq p l e ({ frames := 181, cells := BC, slots := BS, locals := 4892 } : Room) s m args below meth c D dA ad0 g0 A Q Xq BC BS H locs (uc + b32) (us + d33) (F0 m 271 ls [])
  refine ph_aload_n (n := 0) X hl dX9_bed_271 rfl rfl ?_
  refine ph_aload_n (n := 1) X hl dX9_bed_272 rfl rfl ?_
  obtain ⟨hm40, hF⟩ := hF
  have hv41 := gR_lt hP x1 6
  refine cg_getrN 2 6 X in_X2 hP hm40 q539 dX9_bed_273 ?_
  obtain ⟨hm45, hF⟩ := hF
  refine cg_callVi 17 [] X hP hm45 (met_J2_size l D dA ad g35 _ _ hF) (cwV 0 X.2.2.2.2.1 (lw_V q1464 q774 q775 q102 q776) rfl rfl rfl (by decide +kernel) ⟨Nat.le_of_ble_eq_true rfl, Nat.le_of_ble_eq_true rfl⟩) rfl hl (k8 := 1) (csr (cs0 (k := 0))) (by decide) hd34 dX9_bed_276 rfl (fun r42 ι43 H locs hF hP => ?_)
  refine lv_bipush (v := 7) X.1 X.2.1 dX9_bed_279 (by decide) ?_
  refine lv_icmp_ge (tgt := 288) X.1 X.2.1 dX9_bed_281 (by decide) (fun c46 => ?_) (fun c46 => ?_)
  · have hF := hF.1 c46
    refine lv_iconst (v := 0) X.1 X.2.1 dX9_bed_288 (by decide) ?_
    exact w_X9_bed_289 hlt hex hk8 _ _ _ _ _ _ _ _ _ _ _ _ hF X hP hag hl
  · have hF := hF.2 c46
    refine lv_iconst (v := 1) X.1 X.2.1 dX9_bed_284 (by decide) ?_
    refine lv_goto (tgt := 289) X.1 X.2.1 dX9_bed_285 (by decide) ?_
    exact w_X9_bed_289 hlt hex hk8 _ _ _ _ _ _ _ _ _ _ _ _ hF X hP hag hl
set_option maxHeartbeats 2000000 in
theorem w_X9_bed_262 (hlt : l.stackTraces = false) (hex : ∀ x ∈ c.exceptionTable.toList, False) {Xq : Nat → Nat → GT → S → Prop} {BC BS : Nat} {Q : Nat → GT → S → Prop} {k8 : Nat → Nat → GT → S → Nat → Nat → Prop} (hk8 : ∀ (x0 : Nat) (x1 : Nat) (g : GT) (ι : S) (uc us : Nat) (ad : Nat → Nat) (H : Heap) (locs : List Loc) (ls : Array Slot), k8 x0 x1 g ι uc us → CX p s m args c meth cX9_bed 3 (some (.object "SpoonRow$Bed")) RX9 D dA ad A → PW D dA A s.heap ad (HS g ι) H locs → HA ad0 g0 ad g → LH ad ls 3 [(0, pX x0), (1, pX x1)] → WYq p l e ({ frames := 181, cells := BC, slots := BS, locals := 4892 } : Room) s m args below meth c D dA ad0 g0 A Q Xq BC BS H locs (uc) (us) (F0 m 8 ls [])) : ∀ (y0 : Nat) (x0 : Nat) (x1 : Nat) (g : GT) (ι : S) (uc us : Nat) (ad : Nat → Nat) (H : Heap) (locs : List Loc) (ls : Array Slot), P_X9_bed_262 BC BS Xq Q k8 y0 x0 x1 g ι uc us → CX p s m args c meth cX9_bed 3 (some (.object "SpoonRow$Bed")) RX9 D dA ad A → PW D dA A s.heap ad (HS g ι) H locs → HA ad0 g0 ad g → LH ad ls 3 [(0, pX x0), (1, pX x1)] → WYq p l e ({ frames := 181, cells := BC, slots := BS, locals := 4892 } : Room) s m args below meth c D dA ad0 g0 A Q Xq BC BS H locs (uc) (us) (F0 m 262 ls [rv ad y0]) := by
  intro y0 x0 x1 g ι uc us ad H locs ls hF X hP hag hl
  unfold P_X9_bed_262 at hF
  refine lv_iconst (v := 1) X.1 X.2.1 dX9_bed_262 (by decide) ?_
  refine lv_goto (tgt := 267) X.1 X.2.1 dX9_bed_263 (by decide) ?_
  exact w_X9_bed_267 hlt hex hk8 _ _ _ _ _ _ _ _ _ _ _ _ hF X hP hag hl
set_option maxHeartbeats 2000000 in
theorem w_X9_bed_209 (hlt : l.stackTraces = false) (hex : ∀ x ∈ c.exceptionTable.toList, False) {Xq : Nat → Nat → GT → S → Prop} {BC BS : Nat} {Q : Nat → GT → S → Prop} {k8 : Nat → Nat → GT → S → Nat → Nat → Prop} (hk8 : ∀ (x0 : Nat) (x1 : Nat) (g : GT) (ι : S) (uc us : Nat) (ad : Nat → Nat) (H : Heap) (locs : List Loc) (ls : Array Slot), k8 x0 x1 g ι uc us → CX p s m args c meth cX9_bed 3 (some (.object "SpoonRow$Bed")) RX9 D dA ad A → PW D dA A s.heap ad (HS g ι) H locs → HA ad0 g0 ad g → LH ad ls 3 [(0, pX x0), (1, pX x1)] → WYq p l e ({ frames := 181, cells := BC, slots := BS, locals := 4892 } : Room) s m args below meth c D dA ad0 g0 A Q Xq BC BS H locs (uc) (us) (F0 m 8 ls [])) : ∀ (y0 : Nat) (y1 : Int32) (x0 : Nat) (x1 : Nat) (g : GT) (ι : S) (uc us : Nat) (ad : Nat → Nat) (H : Heap) (locs : List Loc) (ls : Array Slot), P_X9_bed_209 BC BS Xq Q k8 y0 y1 x0 x1 g ι uc us → CX p s m args c meth cX9_bed 3 (some (.object "SpoonRow$Bed")) RX9 D dA ad A → PW D dA A s.heap ad (HS g ι) H locs → HA ad0 g0 ad g → LH ad ls 3 [(0, pX x0), (1, pX x1)] → WYq p l e ({ frames := 181, cells := BC, slots := BS, locals := 4892 } : Room) s m args below meth c D dA ad0 g0 A Q Xq BC BS H locs (uc) (us) (F0 m 209 ls [.int y1, rv ad y0]) := by
  intro y0 y1 x0 x1 g ι uc us ad H locs ls hF X hP hag hl
  unfold P_X9_bed_209 at hF
  refine lv_iconst (v := 2) X.1 X.2.1 dX9_bed_209 (by decide) ?_
  obtain ⟨hx48, hF⟩ := hF
  obtain ⟨hx49, hF⟩ := hF
  obtain ⟨b50, d51, hF⟩ := hF
  obtain ⟨hd52, hF⟩ := hF
  obtain ⟨hm85, hF⟩ := hF
  refine hy_callVv 7 [iX y1, iX 2] [] X hP hex hm85 (met_X9_check l D dA ad _ _ hlt _ _ _ hF) (cwV 2 X.2.2.2.2.1 (lw_V q1300 q1302 qs27 q127 q1303) rfl rfl rfl (by decide +kernel) ⟨Nat.le_of_ble_eq_true rfl, Nat.le_of_ble_eq_true rfl⟩) rfl hag hl (ltlp hx49 (ltlp hx48 ltln)) ltsn (k8 := 0) (cs0 (k := 0)) (by decide) hd52 hd52.1 hd52.2 dX9_bed_210 rfl (fun ad g53 ι54 H locs hF X hP hag he55 hl => ?_)
  show WYq p l e ({ frames := 181, cells := BC, slots := BS, locals := 4892 } : Room) s m args below meth c D dA ad0 g0 A Q Xq BC BS H locs (uc + b50) (us + d51) (F0 m 213 ls [])
  refine ph_aload_n (n := 0) X hl dX9_bed_213 rfl rfl ?_
  obtain ⟨b58, d59, hF⟩ := hF
  obtain ⟨hd60, hF⟩ := hF
  obtain ⟨hm84, hF⟩ := hF
  refine hg_callVv 7 [] [] X hP hm84 (met_X9_go l D dA ad _ _ _ _ _ hF) (cwV 0 X.2.2.2.2.1 (lw_V q1182 q1184 qs23 q127 q1185) rfl rfl rfl (by decide +kernel) ⟨Nat.le_of_ble_eq_true rfl, Nat.le_of_ble_eq_true rfl⟩) rfl hag hl (ltlp (ltm hx49 he55) (ltlp (ltm hx48 he55) ltln)) ltsn (k8 := 0) (cs0 (k := 0)) (by decide) hd60 dX9_bed_214 rfl (fun ad g61 ι62 H locs hF X hP hag he63 hl => ?_)
  show WYq p l e ({ frames := 181, cells := BC, slots := BS, locals := 4892 } : Room) s m args below meth c D dA ad0 g0 A Q Xq BC BS H locs (uc + b50 + b58) (us + d51 + d59) (F0 m 217 ls [])
  refine ph_aload_n (n := 0) X hl dX9_bed_217 rfl rfl ?_
  refine ph_aload_n (n := 1) X hl dX9_bed_218 rfl rfl ?_
  obtain ⟨b66, d67, hF⟩ := hF
  obtain ⟨hd68, hF⟩ := hF
  obtain ⟨hm83, hF⟩ := hF
  refine hy_callVv 7 [pX x1] [] X hP hex hm83 (met_X9_never l D dA ad _ _ hlt _ _ _ hF) (cwV 1 X.2.2.2.2.1 (lw_V q1460 q1462 qs37 q127 q1463) rfl rfl rfl (by decide +kernel) ⟨Nat.le_of_ble_eq_true rfl, Nat.le_of_ble_eq_true rfl⟩) rfl hag hl (ltlp (ltm (ltm hx49 he55) he63) (ltlp (ltm (ltm hx48 he55) he63) ltln)) ltsn (k8 := 0) (cs0 (k := 0)) (by decide) hd68 hd68.1 hd68.2 dX9_bed_219 rfl (fun ad g69 ι70 H locs hF X hP hag he71 hl => ?_)
  show WYq p l e ({ frames := 181, cells := BC, slots := BS, locals := 4892 } : Room) s m args below meth c D dA ad0 g0 A Q Xq BC BS H locs (uc + b50 + b58 + b66) (us + d51 + d59 + d67) (F0 m 222 ls [])
  refine lv_goto (tgt := 298) X.1 X.2.1 dX9_bed_222 (by decide) ?_
  refine ph_aload_n (n := 0) X hl dX9_bed_298 rfl rfl ?_
  refine ph_ldcS (i := 10) (tx := ";") X (List.mem_of_getElem? (i := 49) rfl) dX9_bed_299 ?_
  obtain ⟨b74, d75, hF⟩ := hF
  obtain ⟨hd76, hF⟩ := hF
  obtain ⟨hm82, hF⟩ := hF
  refine hy_callVv 7 [pX 21] [] X hP hex hm82 (met_X9_need l D dA ad _ _ hlt _ _ _ hF) (cwV 1 X.2.2.2.2.1 (lw_V q1374 q1376 qs35 q127 q1377) rfl rfl rfl (by decide +kernel) ⟨Nat.le_of_ble_eq_true rfl, Nat.le_of_ble_eq_true rfl⟩) rfl hag hl (ltlp (ltm (ltm (ltm hx49 he55) he63) he71) (ltlp (ltm (ltm (ltm hx48 he55) he63) he71) ltln)) ltsn (k8 := 0) (cs0 (k := 0)) (by decide) hd76 hd76.1 hd76.2 dX9_bed_301 rfl (fun ad g77 ι78 H locs hF X hP hag he79 hl => ?_)
  show WYq p l e ({ frames := 181, cells := BC, slots := BS, locals := 4892 } : Room) s m args below meth c D dA ad0 g0 A Q Xq BC BS H locs (uc + b50 + b58 + b66 + b74) (us + d51 + d59 + d67 + d75) (F0 m 304 ls [])
  refine lv_goto (tgt := 8) X.1 X.2.1 dX9_bed_304 (by decide) ?_
  exact hk8 _ _ _ _ _ _ _ _ _ _ hF X hP hag hl
set_option maxHeartbeats 2000000 in
theorem w_X9_bed_162 (hlt : l.stackTraces = false) (hex : ∀ x ∈ c.exceptionTable.toList, False) {Xq : Nat → Nat → GT → S → Prop} {BC BS : Nat} {Q : Nat → GT → S → Prop} {k8 : Nat → Nat → GT → S → Nat → Nat → Prop} (hk8 : ∀ (x0 : Nat) (x1 : Nat) (g : GT) (ι : S) (uc us : Nat) (ad : Nat → Nat) (H : Heap) (locs : List Loc) (ls : Array Slot), k8 x0 x1 g ι uc us → CX p s m args c meth cX9_bed 3 (some (.object "SpoonRow$Bed")) RX9 D dA ad A → PW D dA A s.heap ad (HS g ι) H locs → HA ad0 g0 ad g → LH ad ls 3 [(0, pX x0), (1, pX x1)] → WYq p l e ({ frames := 181, cells := BC, slots := BS, locals := 4892 } : Room) s m args below meth c D dA ad0 g0 A Q Xq BC BS H locs (uc) (us) (F0 m 8 ls [])) : ∀ (y0 : Nat) (y1 : Int32) (x0 : Nat) (x1 : Nat) (x2 : Int32) (g : GT) (ι : S) (uc us : Nat) (ad : Nat → Nat) (H : Heap) (locs : List Loc) (ls : Array Slot), P_X9_bed_162 BC BS Xq Q k8 y0 y1 x0 x1 x2 g ι uc us → CX p s m args c meth cX9_bed 3 (some (.object "SpoonRow$Bed")) RX9 D dA ad A → PW D dA A s.heap ad (HS g ι) H locs → HA ad0 g0 ad g → LH ad ls 3 [(0, pX x0), (1, pX x1), (2, iX x2)] → WYq p l e ({ frames := 181, cells := BC, slots := BS, locals := 4892 } : Room) s m args below meth c D dA ad0 g0 A Q Xq BC BS H locs (uc) (us) (F0 m 162 ls [.int y1, rv ad y0]) := by
  intro y0 y1 x0 x1 x2 g ι uc us ad H locs ls hF X hP hag hl
  unfold P_X9_bed_162 at hF
  refine lv_iconst (v := 5) X.1 X.2.1 dX9_bed_162 (by decide) ?_
  obtain ⟨hx86, hF⟩ := hF
  obtain ⟨hx87, hF⟩ := hF
  obtain ⟨b88, d89, hF⟩ := hF
  obtain ⟨hd90, hF⟩ := hF
  obtain ⟨hm116, hF⟩ := hF
  refine hy_callVv 7 [iX y1, iX 5] [] X hP hex hm116 (met_X9_check l D dA ad _ _ hlt _ _ _ hF) (cwV 2 X.2.2.2.2.1 (lw_V q1300 q1302 qs27 q127 q1303) rfl rfl rfl (by decide +kernel) ⟨Nat.le_of_ble_eq_true rfl, Nat.le_of_ble_eq_true rfl⟩) rfl hag hl (ltlp hx87 (ltlp hx86 (ltli ltln))) ltsn (k8 := 0) (cs0 (k := 0)) (by decide) hd90 hd90.1 hd90.2 dX9_bed_163 rfl (fun ad g91 ι92 H locs hF X hP hag he93 hl => ?_)
  show WYq p l e ({ frames := 181, cells := BC, slots := BS, locals := 4892 } : Room) s m args below meth c D dA ad0 g0 A Q Xq BC BS H locs (uc + b88) (us + d89) (F0 m 166 ls [])
  refine ph_aload_n (n := 0) X hl dX9_bed_166 rfl rfl ?_
  obtain ⟨b96, d97, hF⟩ := hF
  obtain ⟨hd98, hF⟩ := hF
  obtain ⟨hm115, hF⟩ := hF
  refine hg_callVv 7 [] [] X hP hm115 (met_X9_go l D dA ad _ _ _ _ _ hF) (cwV 0 X.2.2.2.2.1 (lw_V q1182 q1184 qs23 q127 q1185) rfl rfl rfl (by decide +kernel) ⟨Nat.le_of_ble_eq_true rfl, Nat.le_of_ble_eq_true rfl⟩) rfl hag hl (ltlp (ltm hx87 he93) (ltlp (ltm hx86 he93) (ltli ltln))) ltsn (k8 := 0) (cs0 (k := 0)) (by decide) hd98 dX9_bed_167 rfl (fun ad g99 ι100 H locs hF X hP hag he101 hl => ?_)
  show WYq p l e ({ frames := 181, cells := BC, slots := BS, locals := 4892 } : Room) s m args below meth c D dA ad0 g0 A Q Xq BC BS H locs (uc + b88 + b96) (us + d89 + d97) (F0 m 170 ls [])
  refine ph_aload_n (n := 1) X hl dX9_bed_170 rfl rfl ?_
  refine ph_dup_r X dX9_bed_171 ?_
  obtain ⟨hm104, hF⟩ := hF
  refine cg_getiN 2 4 X in_X2 hP hm104 q532 dX9_bed_172 ?_
  refine lv_iconst (v := 1) X.1 X.2.1 dX9_bed_175 (by decide) ?_
  refine ph_iload_n (n := 2) X hl dX9_bed_176 rfl rfl ?_
  refine lv_ishl X.1 X.2.1 dX9_bed_177 ?_
  refine lv_ior X.1 X.2.1 dX9_bed_178 ?_
  refine hg_putiN 2 4 X in_X2 tyX2 tyX2_ok nmX2 hP hm104 q532 dX9_bed_179 rfl rfl hF (fun H locs ι105 hP hF => ?_)
  refine lv_goto (tgt := 298) X.1 X.2.1 dX9_bed_182 (by decide) ?_
  refine ph_aload_n (n := 0) X hl dX9_bed_298 rfl rfl ?_
  refine ph_ldcS (i := 10) (tx := ";") X (List.mem_of_getElem? (i := 49) rfl) dX9_bed_299 ?_
  obtain ⟨b106, d107, hF⟩ := hF
  obtain ⟨hd108, hF⟩ := hF
  obtain ⟨hm114, hF⟩ := hF
  have hl : LH ad ls 3 [(0, pX x0), (1, pX x1)] := lh_sub hl [0, 1] rfl
  refine hy_callVv 7 [pX 21] [] X hP hex hm114 (met_X9_need l D dA ad _ _ hlt _ _ _ hF) (cwV 1 X.2.2.2.2.1 (lw_V q1374 q1376 qs35 q127 q1377) rfl rfl rfl (by decide +kernel) ⟨Nat.le_of_ble_eq_true rfl, Nat.le_of_ble_eq_true rfl⟩) rfl hag hl (ltlp (ltm (ltm hx87 he93) he101) (ltlp (ltm (ltm hx86 he93) he101) ltln)) ltsn (k8 := 0) (cs0 (k := 0)) (by decide) hd108 hd108.1 hd108.2 dX9_bed_301 rfl (fun ad g109 ι110 H locs hF X hP hag he111 hl => ?_)
  show WYq p l e ({ frames := 181, cells := BC, slots := BS, locals := 4892 } : Room) s m args below meth c D dA ad0 g0 A Q Xq BC BS H locs (uc + b88 + b96 + b106) (us + d89 + d97 + d107) (F0 m 304 ls [])
  refine lv_goto (tgt := 8) X.1 X.2.1 dX9_bed_304 (by decide) ?_
  exact hk8 _ _ _ _ _ _ _ _ _ _ hF X hP hag hl
set_option maxHeartbeats 2000000 in
theorem w_X9_bed_8 (hlt : l.stackTraces = false) (hex : ∀ x ∈ c.exceptionTable.toList, False) {Xq : Nat → Nat → GT → S → Prop} {BC BS : Nat} {Q : Nat → GT → S → Prop} : ∀ (n : Nat) (x0 : Nat) (x1 : Nat) (g : GT) (ι : S) (uc us : Nat) (ad : Nat → Nat) (H : Heap) (locs : List Loc) (ls : Array Slot), P_X9_bed_8 BC BS Xq Q n x0 x1 g ι uc us → CX p s m args c meth cX9_bed 3 (some (.object "SpoonRow$Bed")) RX9 D dA ad A → PW D dA A s.heap ad (HS g ι) H locs → HA ad0 g0 ad g → LH ad ls 3 [(0, pX x0), (1, pX x1)] → WYq p l e ({ frames := 181, cells := BC, slots := BS, locals := 4892 } : Room) s m args below meth c D dA ad0 g0 A Q Xq BC BS H locs (uc) (us) (F0 m 8 ls []) := by
  intro n
  induction n with
  | zero =>
    intro x0 x1 g ι uc us ad H locs ls hF
    exact hF.elim
  | succ n ih =>
    intro x0 x1 g ι uc us ad H locs ls hF X hP hag hl
    rw [P_X9_bed_8] at hF
    refine ph_aload_n (n := 0) X hl dX9_bed_8 rfl rfl ?_
    obtain ⟨hm117, hF⟩ := hF
    have hv118 := gR_lt hP x0 6
    refine cg_getr 7 6 X in_X9 hP hm117 q1255 dX9_bed_9 ?_
    refine cg_getsS (k := 4) X hP (by decide) rfl q1190 dX9_bed_12 ?_
    obtain ⟨hm119, hF⟩ := hF
    refine cg_acmp_eq (tgt := 307) X (by have := hm119; omega) (by have := (show 100 ≤ 104 ∧ 104 < 105 by decide); omega) (sort_inj X hm119 (show 100 ≤ 104 ∧ 104 < 105 by decide)) dX9_bed_15 (by decide) (fun c120 => ?_) (fun c120 => ?_)
    · have hF := hF.1 c120
      refine ph_aload_n (n := 1) X hl dX9_bed_307 rfl rfl ?_
      obtain ⟨hd121, hF⟩ := hF
      obtain ⟨hx122, hF⟩ := hF
      exact hy_aret X hP hag (Or.inl ⟨_, rfl⟩) hx122 hF hd121.1 hd121.2 dX9_bed_308
    · have hF := hF.2 c120
      refine ph_aload_n (n := 0) X hl dX9_bed_18 rfl rfl ?_
      refine ph_ldcS (i := 0) (tx := "bed") X (List.mem_of_getElem? (i := 21) rfl) dX9_bed_19 ?_
      refine lv_iconst (v := 0) X.1 X.2.1 dX9_bed_21 (by decide) ?_
      obtain ⟨hx123, hF⟩ := hF
      obtain ⟨hx124, hF⟩ := hF
      obtain ⟨b125, d126, hF⟩ := hF
      obtain ⟨hd127, hF⟩ := hF
      refine hy_callVi 7 [pX 1, iX 0] [] X hP hex hm117 (met_X9_begins l D dA ad _ _ hlt _ _ _ hF) (cwV 2 X.2.2.2.2.1 (lw_V q1285 q1287 qs25 q127 q1288) rfl rfl rfl (by decide +kernel) ⟨Nat.le_of_ble_eq_true rfl, Nat.le_of_ble_eq_true rfl⟩) rfl hag hl (ltlp hx124 (ltlp hx123 ltln)) ltsn (k8 := 0) (cs0 (k := 0)) (by decide) hd127 hd127.1 hd127.2 dX9_bed_22 rfl (fun r131 ad g128 ι129 H locs hF X hP hag he130 hl => ?_)
      show WYq p l e ({ frames := 181, cells := BC, slots := BS, locals := 4892 } : Room) s m args below meth c D dA ad0 g0 A Q Xq BC BS H locs (uc + b125) (us + d126) (F0 m 25 ls [.int r131])
      refine lv_if_eq (tgt := 53) X.1 X.2.1 dX9_bed_25 (by decide) (fun c301 => ?_) (fun c301 => ?_)
      · have hF := hF.1 c301
        refine ph_aload_n (n := 0) X hl dX9_bed_53 rfl rfl ?_
        refine ph_ldcS (i := 1) (tx := "night") X (List.mem_of_getElem? (i := 22) rfl) dX9_bed_54 ?_
        refine lv_iconst (v := 1) X.1 X.2.1 dX9_bed_56 (by decide) ?_
        obtain ⟨b133, d134, hF⟩ := hF
        obtain ⟨hd135, hF⟩ := hF
        obtain ⟨hm269, hF⟩ := hF
        refine hy_callVi 7 [pX 3, iX 1] [] X hP hex hm269 (met_X9_begins l D dA ad _ _ hlt _ _ _ hF) (cwV 2 X.2.2.2.2.1 (lw_V q1285 q1287 qs25 q127 q1288) rfl rfl rfl (by decide +kernel) ⟨Nat.le_of_ble_eq_true rfl, Nat.le_of_ble_eq_true rfl⟩) rfl hag hl (ltlp (ltm hx124 he130) (ltlp (ltm hx123 he130) ltln)) ltsn (k8 := 0) (cs0 (k := 0)) (by decide) hd135 hd135.1 hd135.2 dX9_bed_57 rfl (fun r139 ad g136 ι137 H locs hF X hP hag he138 hl => ?_)
        show WYq p l e ({ frames := 181, cells := BC, slots := BS, locals := 4892 } : Room) s m args below meth c D dA ad0 g0 A Q Xq BC BS H locs (uc + b125 + b133) (us + d126 + d134) (F0 m 60 ls [.int r139])
        refine lv_if_eq (tgt := 78) X.1 X.2.1 dX9_bed_60 (by decide) (fun c268 => ?_) (fun c268 => ?_)
        · have hF := hF.1 c268
          refine ph_aload_n (n := 0) X hl dX9_bed_78 rfl rfl ?_
          refine ph_ldcS (i := 2) (tx := "awake") X (List.mem_of_getElem? (i := 23) rfl) dX9_bed_79 ?_
          refine lv_iconst (v := 2) X.1 X.2.1 dX9_bed_81 (by decide) ?_
          obtain ⟨b141, d142, hF⟩ := hF
          obtain ⟨hd143, hF⟩ := hF
          obtain ⟨hm247, hF⟩ := hF
          refine hy_callVi 7 [pX 5, iX 2] [] X hP hex hm247 (met_X9_begins l D dA ad _ _ hlt _ _ _ hF) (cwV 2 X.2.2.2.2.1 (lw_V q1285 q1287 qs25 q127 q1288) rfl rfl rfl (by decide +kernel) ⟨Nat.le_of_ble_eq_true rfl, Nat.le_of_ble_eq_true rfl⟩) rfl hag hl (ltlp (ltm (ltm hx124 he130) he138) (ltlp (ltm (ltm hx123 he130) he138) ltln)) ltsn (k8 := 0) (cs0 (k := 0)) (by decide) hd143 hd143.1 hd143.2 dX9_bed_82 rfl (fun r147 ad g144 ι145 H locs hF X hP hag he146 hl => ?_)
          show WYq p l e ({ frames := 181, cells := BC, slots := BS, locals := 4892 } : Room) s m args below meth c D dA ad0 g0 A Q Xq BC BS H locs (uc + b125 + b133 + b141) (us + d126 + d134 + d142) (F0 m 85 ls [.int r147])
          refine lv_if_eq (tgt := 102) X.1 X.2.1 dX9_bed_85 (by decide) (fun c246 => ?_) (fun c246 => ?_)
          · have hF := hF.1 c246
            refine ph_aload_n (n := 0) X hl dX9_bed_102 rfl rfl ?_
            refine ph_ldcS (i := 3) (tx := "wakes") X (List.mem_of_getElem? (i := 24) rfl) dX9_bed_103 ?_
            refine lv_iconst (v := 3) X.1 X.2.1 dX9_bed_105 (by decide) ?_
            obtain ⟨b149, d150, hF⟩ := hF
            obtain ⟨hd151, hF⟩ := hF
            obtain ⟨hm225, hF⟩ := hF
            refine hy_callVi 7 [pX 7, iX 3] [] X hP hex hm225 (met_X9_begins l D dA ad _ _ hlt _ _ _ hF) (cwV 2 X.2.2.2.2.1 (lw_V q1285 q1287 qs25 q127 q1288) rfl rfl rfl (by decide +kernel) ⟨Nat.le_of_ble_eq_true rfl, Nat.le_of_ble_eq_true rfl⟩) rfl hag hl (ltlp (ltm (ltm (ltm hx124 he130) he138) he146) (ltlp (ltm (ltm (ltm hx123 he130) he138) he146) ltln)) ltsn (k8 := 0) (cs0 (k := 0)) (by decide) hd151 hd151.1 hd151.2 dX9_bed_106 rfl (fun r155 ad g152 ι153 H locs hF X hP hag he154 hl => ?_)
            show WYq p l e ({ frames := 181, cells := BC, slots := BS, locals := 4892 } : Room) s m args below meth c D dA ad0 g0 A Q Xq BC BS H locs (uc + b125 + b133 + b141 + b149) (us + d126 + d134 + d142 + d150) (F0 m 109 ls [.int r155])
            refine lv_if_eq (tgt := 124) X.1 X.2.1 dX9_bed_109 (by decide) (fun c224 => ?_) (fun c224 => ?_)
            · have hF := hF.1 c224
              refine ph_aload_n (n := 0) X hl dX9_bed_124 rfl rfl ?_
              refine ph_ldcS (i := 4) (tx := "bolster") X (List.mem_of_getElem? (i := 43) rfl) dX9_bed_125 ?_
              obtain ⟨hm160, hF⟩ := hF
              refine cg_callVi 7 [pX 9] X hP hm160 (met_X9_is l D dA ad g152 _ _ hF) (cwV 1 X.2.2.2.2.1 (lw_V q1289 q1291 qs26 q127 q1292) rfl rfl rfl (by decide +kernel) ⟨Nat.le_of_ble_eq_true rfl, Nat.le_of_ble_eq_true rfl⟩) rfl hl (k8 := 0) (cs0 (k := 0)) (by decide) hd151 dX9_bed_127 rfl (fun r157 ι158 H locs hF hP => ?_)
              refine lv_if_eq (tgt := 185) X.1 X.2.1 dX9_bed_130 (by decide) (fun c202 => ?_) (fun c202 => ?_)
              · have hF := hF.1 c202
                refine ph_aload_n (n := 0) X hl dX9_bed_185 rfl rfl ?_
                refine ph_ldcS (i := 5) (tx := "never") X (List.mem_of_getElem? (i := 44) rfl) dX9_bed_186 ?_
                refine cg_callVi 7 [pX 11] X hP hm160 (met_X9_is l D dA ad g152 _ _ hF) (cwV 1 X.2.2.2.2.1 (lw_V q1289 q1291 qs26 q127 q1292) rfl rfl rfl (by decide +kernel) ⟨Nat.le_of_ble_eq_true rfl, Nat.le_of_ble_eq_true rfl⟩) rfl hl (k8 := 0) (cs0 (k := 0)) (by decide) hd151 dX9_bed_188 rfl (fun r161 ι162 H locs hF hP => ?_)
                refine lv_if_eq (tgt := 225) X.1 X.2.1 dX9_bed_191 (by decide) (fun c182 => ?_) (fun c182 => ?_)
                · have hF := hF.1 c182
                  refine ph_aload_n (n := 0) X hl dX9_bed_225 rfl rfl ?_
                  refine ph_aload_n (n := 0) X hl dX9_bed_226 rfl rfl ?_
                  refine ph_ldcS (i := 6) (tx := "sleeper") X (List.mem_of_getElem? (i := 45) rfl) dX9_bed_227 ?_
                  refine cg_callVi 7 [pX 13] X hP hm160 (met_X9_is l D dA ad g152 _ _ hF) (cwV 1 X.2.2.2.2.1 (lw_V q1289 q1291 qs26 q127 q1292) rfl rfl rfl (by decide +kernel) ⟨Nat.le_of_ble_eq_true rfl, Nat.le_of_ble_eq_true rfl⟩) rfl hl (k8 := 1) (csr (cs0 (k := 0))) (by decide) hd151 dX9_bed_229 rfl (fun r164 ι165 H locs hF hP => ?_)
                  refine lv_if_ne (tgt := 262) X.1 X.2.1 dX9_bed_232 (by decide) (fun c179 => ?_) (fun c179 => ?_)
                  · have hF := hF.1 c179
                    exact w_X9_bed_262 hlt hex ih _ _ _ _ _ _ _ _ _ _ _ hF X hP hag hl
                  · have hF := hF.2 c179
                    refine ph_aload_n (n := 0) X hl dX9_bed_235 rfl rfl ?_
                    refine ph_ldcS (i := 7) (tx := "child") X (List.mem_of_getElem? (i := 46) rfl) dX9_bed_236 ?_
                    refine cg_callVi 7 [pX 15] X hP hm160 (met_X9_is l D dA ad g152 _ _ hF) (cwV 1 X.2.2.2.2.1 (lw_V q1289 q1291 qs26 q127 q1292) rfl rfl rfl (by decide +kernel) ⟨Nat.le_of_ble_eq_true rfl, Nat.le_of_ble_eq_true rfl⟩) rfl hl (k8 := 1) (csr (cs0 (k := 0))) (by decide) hd151 dX9_bed_238 rfl (fun r167 ι168 H locs hF hP => ?_)
                    refine lv_if_ne (tgt := 262) X.1 X.2.1 dX9_bed_241 (by decide) (fun c178 => ?_) (fun c178 => ?_)
                    · have hF := hF.1 c178
                      exact w_X9_bed_262 hlt hex ih _ _ _ _ _ _ _ _ _ _ _ hF X hP hag hl
                    · have hF := hF.2 c178
                      refine ph_aload_n (n := 0) X hl dX9_bed_244 rfl rfl ?_
                      refine ph_ldcS (i := 8) (tx := "snorer") X (List.mem_of_getElem? (i := 47) rfl) dX9_bed_245 ?_
                      refine cg_callVi 7 [pX 17] X hP hm160 (met_X9_is l D dA ad g152 _ _ hF) (cwV 1 X.2.2.2.2.1 (lw_V q1289 q1291 qs26 q127 q1292) rfl rfl rfl (by decide +kernel) ⟨Nat.le_of_ble_eq_true rfl, Nat.le_of_ble_eq_true rfl⟩) rfl hl (k8 := 1) (csr (cs0 (k := 0))) (by decide) hd151 dX9_bed_247 rfl (fun r170 ι171 H locs hF hP => ?_)
                      refine lv_if_ne (tgt := 262) X.1 X.2.1 dX9_bed_250 (by decide) (fun c177 => ?_) (fun c177 => ?_)
                      · have hF := hF.1 c177
                        exact w_X9_bed_262 hlt hex ih _ _ _ _ _ _ _ _ _ _ _ hF X hP hag hl
                      · have hF := hF.2 c177
                        refine ph_aload_n (n := 0) X hl dX9_bed_253 rfl rfl ?_
                        refine ph_ldcS (i := 9) (tx := "dog") X (List.mem_of_getElem? (i := 48) rfl) dX9_bed_254 ?_
                        refine cg_callVi 7 [pX 19] X hP hm160 (met_X9_is l D dA ad g152 _ _ hF) (cwV 1 X.2.2.2.2.1 (lw_V q1289 q1291 qs26 q127 q1292) rfl rfl rfl (by decide +kernel) ⟨Nat.le_of_ble_eq_true rfl, Nat.le_of_ble_eq_true rfl⟩) rfl hl (k8 := 1) (csr (cs0 (k := 0))) (by decide) hd151 dX9_bed_256 rfl (fun r173 ι174 H locs hF hP => ?_)
                        refine lv_if_eq (tgt := 266) X.1 X.2.1 dX9_bed_259 (by decide) (fun c176 => ?_) (fun c176 => ?_)
                        · have hF := hF.1 c176
                          refine lv_iconst (v := 0) X.1 X.2.1 dX9_bed_266 (by decide) ?_
                          exact w_X9_bed_267 hlt hex ih _ _ _ _ _ _ _ _ _ _ _ _ hF X hP hag hl
                        · have hF := hF.2 c176
                          exact w_X9_bed_262 hlt hex ih _ _ _ _ _ _ _ _ _ _ _ hF X hP hag hl
                · have hF := hF.2 c182
                  refine ph_aload_n (n := 0) X hl dX9_bed_194 rfl rfl ?_
                  refine ph_aload_n (n := 1) X hl dX9_bed_195 rfl rfl ?_
                  obtain ⟨hm180, hF⟩ := hF
                  refine cg_getiN 2 5 X in_X2 hP hm180 q534 dX9_bed_196 ?_
                  refine lv_bipush (v := 6) X.1 X.2.1 dX9_bed_199 (by decide) ?_
                  refine lv_icmp_ge (tgt := 208) X.1 X.2.1 dX9_bed_201 (by decide) (fun c181 => ?_) (fun c181 => ?_)
                  · have hF := hF.1 c181
                    refine lv_iconst (v := 0) X.1 X.2.1 dX9_bed_208 (by decide) ?_
                    exact w_X9_bed_209 hlt hex ih _ _ _ _ _ _ _ _ _ _ _ _ hF X hP hag hl
                  · have hF := hF.2 c181
                    refine lv_iconst (v := 1) X.1 X.2.1 dX9_bed_204 (by decide) ?_
                    refine lv_goto (tgt := 209) X.1 X.2.1 dX9_bed_205 (by decide) ?_
                    exact w_X9_bed_209 hlt hex ih _ _ _ _ _ _ _ _ _ _ _ _ hF X hP hag hl
              · have hF := hF.2 c202
                refine ph_aload_n (n := 0) X hl dX9_bed_133 rfl rfl ?_
                obtain ⟨b183, d184, hF⟩ := hF
                obtain ⟨hd185, hF⟩ := hF
                refine hg_callVv 7 [] [] X hP hm160 (met_X9_go l D dA ad _ _ _ _ _ hF) (cwV 0 X.2.2.2.2.1 (lw_V q1182 q1184 qs23 q127 q1185) rfl rfl rfl (by decide +kernel) ⟨Nat.le_of_ble_eq_true rfl, Nat.le_of_ble_eq_true rfl⟩) rfl hag hl (ltlp (ltm (ltm (ltm (ltm hx124 he130) he138) he146) he154) (ltlp (ltm (ltm (ltm (ltm hx123 he130) he138) he146) he154) ltln)) ltsn (k8 := 0) (cs0 (k := 0)) (by decide) hd185 dX9_bed_134 rfl (fun ad g186 ι187 H locs hF X hP hag he188 hl => ?_)
                show WYq p l e ({ frames := 181, cells := BC, slots := BS, locals := 4892 } : Room) s m args below meth c D dA ad0 g0 A Q Xq BC BS H locs (uc + b125 + b133 + b141 + b149 + b183) (us + d126 + d134 + d142 + d150 + d184) (F0 m 137 ls [])
                refine ph_aload_n (n := 0) X hl dX9_bed_137 rfl rfl ?_
                refine lv_iconst (v := 1) X.1 X.2.1 dX9_bed_138 (by decide) ?_
                refine lv_bipush (v := 6) X.1 X.2.1 dX9_bed_139 (by decide) ?_
                obtain ⟨b191, d192, hF⟩ := hF
                obtain ⟨hd193, hF⟩ := hF
                obtain ⟨hm201, hF⟩ := hF
                refine hy_callVi 7 [iX 1, iX 6] [] X hP hex hm201 (met_X9_numberHere l D dA ad _ _ hlt _ _ _ hF) (cwV 2 X.2.2.2.2.1 (lw_V q1455 q1457 qs36 q127 q1458) rfl rfl rfl (by decide +kernel) ⟨Nat.le_of_ble_eq_true rfl, Nat.le_of_ble_eq_true rfl⟩) rfl hag hl (ltlp (ltm (ltm (ltm (ltm (ltm hx124 he130) he138) he146) he154) he188) (ltlp (ltm (ltm (ltm (ltm (ltm hx123 he130) he138) he146) he154) he188) ltln)) ltsn (k8 := 0) (cs0 (k := 0)) (by decide) hd193 hd193.1 hd193.2 dX9_bed_141 rfl (fun r197 ad g194 ι195 H locs hF X hP hag he196 hl => ?_)
                show WYq p l e ({ frames := 181, cells := BC, slots := BS, locals := 4892 } : Room) s m args below meth c D dA ad0 g0 A Q Xq BC BS H locs (uc + b125 + b133 + b141 + b149 + b183 + b191) (us + d126 + d134 + d142 + d150 + d184 + d192) (F0 m 144 ls [.int r197])
                refine ph_istore_n X hl dX9_bed_144 rfl (by decide) rfl (fun ls hl => ?_)
                refine ph_aload_n (n := 1) X hl dX9_bed_145 rfl rfl ?_
                refine ph_aload_n (n := 2) X hl dX9_bed_146 rfl rfl ?_
                obtain ⟨hm199, hF⟩ := hF
                refine cg_getiN 2 4 X in_X2 hP hm199 q532 dX9_bed_147 ?_
                refine ph_iload_n (n := 0) X hl dX9_bed_150 rfl rfl ?_
                refine lv_ishr X.1 X.2.1 dX9_bed_151 ?_
                refine lv_iconst (v := 1) X.1 X.2.1 dX9_bed_152 (by decide) ?_
                refine lv_iand X.1 X.2.1 dX9_bed_153 ?_
                refine lv_if_ne (tgt := 161) X.1 X.2.1 dX9_bed_154 (by decide) (fun c200 => ?_) (fun c200 => ?_)
                · have hF := hF.1 c200
                  refine lv_iconst (v := 0) X.1 X.2.1 dX9_bed_161 (by decide) ?_
                  exact w_X9_bed_162 hlt hex ih _ _ _ _ _ _ _ _ _ _ _ _ _ hF X hP hag (lh_sub hl [1, 2, 0] rfl)
                · have hF := hF.2 c200
                  refine lv_iconst (v := 1) X.1 X.2.1 dX9_bed_157 (by decide) ?_
                  refine lv_goto (tgt := 162) X.1 X.2.1 dX9_bed_158 (by decide) ?_
                  exact w_X9_bed_162 hlt hex ih _ _ _ _ _ _ _ _ _ _ _ _ _ hF X hP hag (lh_sub hl [1, 2, 0] rfl)
            · have hF := hF.2 c224
              refine ph_aload_n (n := 1) X hl dX9_bed_112 rfl rfl ?_
              refine ph_aload_n (n := 0) X hl dX9_bed_113 rfl rfl ?_
              refine lv_iconst (v := 0) X.1 X.2.1 dX9_bed_114 (by decide) ?_
              obtain ⟨b203, d204, hF⟩ := hF
              obtain ⟨hd205, hF⟩ := hF
              obtain ⟨hm223, hF⟩ := hF
              refine hy_callVq 7 [iX 0] [pX x1] X hP hex hm223 (met_exprR l D dA hlt 10 _ _ _ _ _ _ _ _ _ _ hF) (cwV 1 X.2.2.2.2.1 (lw_V q1334 q1336 qs29 q127 q1337) rfl rfl rfl (by decide +kernel) ⟨Nat.le_of_ble_eq_true rfl, Nat.le_of_ble_eq_true rfl⟩) rfl hag hl (ltlp (ltm (ltm (ltm (ltm hx124 he130) he138) he146) he154) (ltlp (ltm (ltm (ltm (ltm hx123 he130) he138) he146) he154) ltln)) (ltsp (ltm (ltm (ltm (ltm hx123 he130) he138) he146) he154) ltsn) (k8 := 1) (csr (cs0 (k := 0))) (by decide) hd205 hd205.1 hd205.2 dX9_bed_115 rfl (fun r209 ad g206 ι207 H locs hF hv210 X hP hag he208 hl => ?_)
              show WYq p l e ({ frames := 181, cells := BC, slots := BS, locals := 4892 } : Room) s m args below meth c D dA ad0 g0 A Q Xq BC BS H locs (uc + b125 + b133 + b141 + b149 + b203) (us + d126 + d134 + d142 + d150 + d204) (F0 m 118 ls [rv ad r209, rv ad x1])
              obtain ⟨hm211, hF⟩ := hF
              refine hg_putrN 2 8 X in_X2 tyX2 tyX2_ok nmX2 hP hm211 q544 dX9_bed_118 hv210 hF (fun H locs g212 hP he213 hF => ?_) (Or.inl ⟨_, rfl⟩)
              have hag : HA ad0 g0 ad g212 := ⟨by rw [he213.1]; exact hag.1, hag.2⟩
              refine lv_goto (tgt := 298) X.1 X.2.1 dX9_bed_121 (by decide) ?_
              refine ph_aload_n (n := 0) X hl dX9_bed_298 rfl rfl ?_
              refine ph_ldcS (i := 10) (tx := ";") X (List.mem_of_getElem? (i := 49) rfl) dX9_bed_299 ?_
              obtain ⟨b214, d215, hF⟩ := hF
              obtain ⟨hd216, hF⟩ := hF
              obtain ⟨hm222, hF⟩ := hF
              refine hy_callVv 7 [pX 21] [] X hP hex hm222 (met_X9_need l D dA ad _ _ hlt _ _ _ hF) (cwV 1 X.2.2.2.2.1 (lw_V q1374 q1376 qs35 q127 q1377) rfl rfl rfl (by decide +kernel) ⟨Nat.le_of_ble_eq_true rfl, Nat.le_of_ble_eq_true rfl⟩) rfl hag hl (ltlp (ltm (ltm (ltm (ltm (ltm (ltm hx124 he130) he138) he146) he154) he208) (Nat.le_of_eq he213.1.symm)) (ltlp (ltm (ltm (ltm (ltm (ltm (ltm hx123 he130) he138) he146) he154) he208) (Nat.le_of_eq he213.1.symm)) ltln)) ltsn (k8 := 0) (cs0 (k := 0)) (by decide) hd216 hd216.1 hd216.2 dX9_bed_301 rfl (fun ad g217 ι218 H locs hF X hP hag he219 hl => ?_)
              show WYq p l e ({ frames := 181, cells := BC, slots := BS, locals := 4892 } : Room) s m args below meth c D dA ad0 g0 A Q Xq BC BS H locs (uc + b125 + b133 + b141 + b149 + b203 + b214) (us + d126 + d134 + d142 + d150 + d204 + d215) (F0 m 304 ls [])
              refine lv_goto (tgt := 8) X.1 X.2.1 dX9_bed_304 (by decide) ?_
              exact ih _ _ _ _ _ _ _ _ _ _ hF X hP hag hl
          · have hF := hF.2 c246
            refine ph_aload_n (n := 1) X hl dX9_bed_88 rfl rfl ?_
            refine ph_aload_n (n := 0) X hl dX9_bed_89 rfl rfl ?_
            refine lv_iconst (v := 0) X.1 X.2.1 dX9_bed_90 (by decide) ?_
            refine lv_bipush (v := 60) X.1 X.2.1 dX9_bed_91 (by decide) ?_
            obtain ⟨b226, d227, hF⟩ := hF
            obtain ⟨hd228, hF⟩ := hF
            obtain ⟨hm245, hF⟩ := hF
            refine hy_callVi 7 [iX 0, iX 60] [pX x1] X hP hex hm245 (met_X9_number l D dA ad _ _ hlt _ _ _ hF) (cwV 2 X.2.2.2.2.1 (lw_V q1327 q1329 qs28 q127 q1330) rfl rfl rfl (by decide +kernel) ⟨Nat.le_of_ble_eq_true rfl, Nat.le_of_ble_eq_true rfl⟩) rfl hag hl (ltlp (ltm (ltm (ltm hx124 he130) he138) he146) (ltlp (ltm (ltm (ltm hx123 he130) he138) he146) ltln)) (ltsp (ltm (ltm (ltm hx123 he130) he138) he146) ltsn) (k8 := 1) (csr (cs0 (k := 0))) (by decide) hd228 hd228.1 hd228.2 dX9_bed_93 rfl (fun r232 ad g229 ι230 H locs hF X hP hag he231 hl => ?_)
            show WYq p l e ({ frames := 181, cells := BC, slots := BS, locals := 4892 } : Room) s m args below meth c D dA ad0 g0 A Q Xq BC BS H locs (uc + b125 + b133 + b141 + b226) (us + d126 + d134 + d142 + d227) (F0 m 96 ls [.int r232, rv ad x1])
            obtain ⟨hm234, hF⟩ := hF
            refine hg_putiN 2 3 X in_X2 tyX2 tyX2_ok nmX2 hP hm234 q530 dX9_bed_96 rfl rfl hF (fun H locs ι235 hP hF => ?_)
            refine lv_goto (tgt := 298) X.1 X.2.1 dX9_bed_99 (by decide) ?_
            refine ph_aload_n (n := 0) X hl dX9_bed_298 rfl rfl ?_
            refine ph_ldcS (i := 10) (tx := ";") X (List.mem_of_getElem? (i := 49) rfl) dX9_bed_299 ?_
            obtain ⟨b236, d237, hF⟩ := hF
            obtain ⟨hd238, hF⟩ := hF
            obtain ⟨hm244, hF⟩ := hF
            refine hy_callVv 7 [pX 21] [] X hP hex hm244 (met_X9_need l D dA ad _ _ hlt _ _ _ hF) (cwV 1 X.2.2.2.2.1 (lw_V q1374 q1376 qs35 q127 q1377) rfl rfl rfl (by decide +kernel) ⟨Nat.le_of_ble_eq_true rfl, Nat.le_of_ble_eq_true rfl⟩) rfl hag hl (ltlp (ltm (ltm (ltm (ltm hx124 he130) he138) he146) he231) (ltlp (ltm (ltm (ltm (ltm hx123 he130) he138) he146) he231) ltln)) ltsn (k8 := 0) (cs0 (k := 0)) (by decide) hd238 hd238.1 hd238.2 dX9_bed_301 rfl (fun ad g239 ι240 H locs hF X hP hag he241 hl => ?_)
            show WYq p l e ({ frames := 181, cells := BC, slots := BS, locals := 4892 } : Room) s m args below meth c D dA ad0 g0 A Q Xq BC BS H locs (uc + b125 + b133 + b141 + b226 + b236) (us + d126 + d134 + d142 + d227 + d237) (F0 m 304 ls [])
            refine lv_goto (tgt := 8) X.1 X.2.1 dX9_bed_304 (by decide) ?_
            exact ih _ _ _ _ _ _ _ _ _ _ hF X hP hag hl
        · have hF := hF.2 c268
          refine ph_aload_n (n := 1) X hl dX9_bed_63 rfl rfl ?_
          refine ph_aload_n (n := 0) X hl dX9_bed_64 rfl rfl ?_
          refine lv_iconst (v := 1) X.1 X.2.1 dX9_bed_65 (by decide) ?_
          refine lv_sipush (v := 600) X.1 X.2.1 dX9_bed_66 (by decide) ?_
          obtain ⟨b248, d249, hF⟩ := hF
          obtain ⟨hd250, hF⟩ := hF
          obtain ⟨hm267, hF⟩ := hF
          refine hy_callVi 7 [iX 1, iX 600] [pX x1] X hP hex hm267 (met_X9_number l D dA ad _ _ hlt _ _ _ hF) (cwV 2 X.2.2.2.2.1 (lw_V q1327 q1329 qs28 q127 q1330) rfl rfl rfl (by decide +kernel) ⟨Nat.le_of_ble_eq_true rfl, Nat.le_of_ble_eq_true rfl⟩) rfl hag hl (ltlp (ltm (ltm hx124 he130) he138) (ltlp (ltm (ltm hx123 he130) he138) ltln)) (ltsp (ltm (ltm hx123 he130) he138) ltsn) (k8 := 1) (csr (cs0 (k := 0))) (by decide) hd250 hd250.1 hd250.2 dX9_bed_69 rfl (fun r254 ad g251 ι252 H locs hF X hP hag he253 hl => ?_)
          show WYq p l e ({ frames := 181, cells := BC, slots := BS, locals := 4892 } : Room) s m args below meth c D dA ad0 g0 A Q Xq BC BS H locs (uc + b125 + b133 + b248) (us + d126 + d134 + d249) (F0 m 72 ls [.int r254, rv ad x1])
          obtain ⟨hm256, hF⟩ := hF
          refine hg_putiN 2 2 X in_X2 tyX2 tyX2_ok nmX2 hP hm256 q526 dX9_bed_72 rfl rfl hF (fun H locs ι257 hP hF => ?_)
          refine lv_goto (tgt := 298) X.1 X.2.1 dX9_bed_75 (by decide) ?_
          refine ph_aload_n (n := 0) X hl dX9_bed_298 rfl rfl ?_
          refine ph_ldcS (i := 10) (tx := ";") X (List.mem_of_getElem? (i := 49) rfl) dX9_bed_299 ?_
          obtain ⟨b258, d259, hF⟩ := hF
          obtain ⟨hd260, hF⟩ := hF
          obtain ⟨hm266, hF⟩ := hF
          refine hy_callVv 7 [pX 21] [] X hP hex hm266 (met_X9_need l D dA ad _ _ hlt _ _ _ hF) (cwV 1 X.2.2.2.2.1 (lw_V q1374 q1376 qs35 q127 q1377) rfl rfl rfl (by decide +kernel) ⟨Nat.le_of_ble_eq_true rfl, Nat.le_of_ble_eq_true rfl⟩) rfl hag hl (ltlp (ltm (ltm (ltm hx124 he130) he138) he253) (ltlp (ltm (ltm (ltm hx123 he130) he138) he253) ltln)) ltsn (k8 := 0) (cs0 (k := 0)) (by decide) hd260 hd260.1 hd260.2 dX9_bed_301 rfl (fun ad g261 ι262 H locs hF X hP hag he263 hl => ?_)
          show WYq p l e ({ frames := 181, cells := BC, slots := BS, locals := 4892 } : Room) s m args below meth c D dA ad0 g0 A Q Xq BC BS H locs (uc + b125 + b133 + b248 + b258) (us + d126 + d134 + d249 + d259) (F0 m 304 ls [])
          refine lv_goto (tgt := 8) X.1 X.2.1 dX9_bed_304 (by decide) ?_
          exact ih _ _ _ _ _ _ _ _ _ _ hF X hP hag hl
      · have hF := hF.2 c301
        refine ph_aload_n (n := 1) X hl dX9_bed_28 rfl rfl ?_
        refine ph_aload_n (n := 0) X hl dX9_bed_29 rfl rfl ?_
        refine lv_iconst (v := 1) X.1 X.2.1 dX9_bed_30 (by decide) ?_
        refine lv_bipush (v := 99) X.1 X.2.1 dX9_bed_31 (by decide) ?_
        obtain ⟨b270, d271, hF⟩ := hF
        obtain ⟨hd272, hF⟩ := hF
        obtain ⟨hm300, hF⟩ := hF
        refine hy_callVi 7 [iX 1, iX 99] [pX x1] X hP hex hm300 (met_X9_number l D dA ad _ _ hlt _ _ _ hF) (cwV 2 X.2.2.2.2.1 (lw_V q1327 q1329 qs28 q127 q1330) rfl rfl rfl (by decide +kernel) ⟨Nat.le_of_ble_eq_true rfl, Nat.le_of_ble_eq_true rfl⟩) rfl hag hl (ltlp (ltm hx124 he130) (ltlp (ltm hx123 he130) ltln)) (ltsp (ltm hx123 he130) ltsn) (k8 := 1) (csr (cs0 (k := 0))) (by decide) hd272 hd272.1 hd272.2 dX9_bed_33 rfl (fun r276 ad g273 ι274 H locs hF X hP hag he275 hl => ?_)
        show WYq p l e ({ frames := 181, cells := BC, slots := BS, locals := 4892 } : Room) s m args below meth c D dA ad0 g0 A Q Xq BC BS H locs (uc + b125 + b270) (us + d126 + d271) (F0 m 36 ls [.int r276, rv ad x1])
        obtain ⟨hm278, hF⟩ := hF
        refine hg_putiN 2 0 X in_X2 tyX2 tyX2_ok nmX2 hP hm278 q519 dX9_bed_36 rfl rfl hF (fun H locs ι279 hP hF => ?_)
        refine ph_aload_n (n := 1) X hl dX9_bed_39 rfl rfl ?_
        refine ph_aload_n (n := 0) X hl dX9_bed_40 rfl rfl ?_
        refine lv_iconst (v := 0) X.1 X.2.1 dX9_bed_41 (by decide) ?_
        refine lv_bipush (v := 9) X.1 X.2.1 dX9_bed_42 (by decide) ?_
        obtain ⟨b280, d281, hF⟩ := hF
        obtain ⟨hd282, hF⟩ := hF
        obtain ⟨hm299, hF⟩ := hF
        refine hy_callVi 7 [iX 0, iX 9] [pX x1] X hP hex hm299 (met_X9_number l D dA ad _ _ hlt _ _ _ hF) (cwV 2 X.2.2.2.2.1 (lw_V q1327 q1329 qs28 q127 q1330) rfl rfl rfl (by decide +kernel) ⟨Nat.le_of_ble_eq_true rfl, Nat.le_of_ble_eq_true rfl⟩) rfl hag hl (ltlp (ltm (ltm hx124 he130) he275) (ltlp (ltm (ltm hx123 he130) he275) ltln)) (ltsp (ltm (ltm hx123 he130) he275) ltsn) (k8 := 1) (csr (cs0 (k := 0))) (by decide) hd282 hd282.1 hd282.2 dX9_bed_44 rfl (fun r286 ad g283 ι284 H locs hF X hP hag he285 hl => ?_)
        show WYq p l e ({ frames := 181, cells := BC, slots := BS, locals := 4892 } : Room) s m args below meth c D dA ad0 g0 A Q Xq BC BS H locs (uc + b125 + b270 + b280) (us + d126 + d271 + d281) (F0 m 47 ls [.int r286, rv ad x1])
        obtain ⟨hm288, hF⟩ := hF
        refine hg_putiN 2 1 X in_X2 tyX2 tyX2_ok nmX2 hP hm288 q522 dX9_bed_47 rfl rfl hF (fun H locs ι289 hP hF => ?_)
        refine lv_goto (tgt := 298) X.1 X.2.1 dX9_bed_50 (by decide) ?_
        refine ph_aload_n (n := 0) X hl dX9_bed_298 rfl rfl ?_
        refine ph_ldcS (i := 10) (tx := ";") X (List.mem_of_getElem? (i := 49) rfl) dX9_bed_299 ?_
        obtain ⟨b290, d291, hF⟩ := hF
        obtain ⟨hd292, hF⟩ := hF
        obtain ⟨hm298, hF⟩ := hF
        refine hy_callVv 7 [pX 21] [] X hP hex hm298 (met_X9_need l D dA ad _ _ hlt _ _ _ hF) (cwV 1 X.2.2.2.2.1 (lw_V q1374 q1376 qs35 q127 q1377) rfl rfl rfl (by decide +kernel) ⟨Nat.le_of_ble_eq_true rfl, Nat.le_of_ble_eq_true rfl⟩) rfl hag hl (ltlp (ltm (ltm (ltm hx124 he130) he275) he285) (ltlp (ltm (ltm (ltm hx123 he130) he275) he285) ltln)) ltsn (k8 := 0) (cs0 (k := 0)) (by decide) hd292 hd292.1 hd292.2 dX9_bed_301 rfl (fun ad g293 ι294 H locs hF X hP hag he295 hl => ?_)
        show WYq p l e ({ frames := 181, cells := BC, slots := BS, locals := 4892 } : Room) s m args below meth c D dA ad0 g0 A Q Xq BC BS H locs (uc + b125 + b270 + b280 + b290) (us + d126 + d271 + d281 + d291) (F0 m 304 ls [])
        refine lv_goto (tgt := 8) X.1 X.2.1 dX9_bed_304 (by decide) ?_
        exact ih _ _ _ _ _ _ _ _ _ _ hF X hP hag hl
set_option maxHeartbeats 2000000 in
theorem we_X9_bed (hlt : l.stackTraces = false) (hex : ∀ x ∈ c.exceptionTable.toList, False) {Xq : Nat → Nat → GT → S → Prop} {BC BS : Nat} {Q : Nat → GT → S → Prop} : ∀ (a0 : Nat) (g : GT) (ι : S) (ad : Nat → Nat) (H : Heap) (locs : List Loc) (ls : Array Slot), P_X9_bed BC BS Xq a0 g ι Q → CX p s m args c meth cX9_bed 3 (some (.object "SpoonRow$Bed")) RX9 D dA ad A → PW D dA A s.heap ad (HS g ι) H locs → HA ad0 g0 ad g → LH ad ls 3 [(0, pX a0)] → WYq p l e ({ frames := 181, cells := BC, slots := BS, locals := 4892 } : Room) s m args below meth c D dA ad0 g0 A Q Xq BC BS H locs (0) (0) (F0 m 0 ls []) := by
  intro a0 g ι ad H locs ls hF X hP hag hl
  unfold P_X9_bed at hF
  obtain ⟨hx302, hF⟩ := hF
  obtain ⟨hd303, hF⟩ := hF
  refine hg_new 2 [] X hP hag hl (ltlp hx302 ltln) ltsn in_X2 tyX2 tyX2_ok (by decide +kernel) q1282 q149 q99 hd303 dX9_bed_0 rfl hF (fun H ad g304 ι305 X hP hag he306 hk307 hl hF => ?_)
  show WYq p l e ({ frames := 181, cells := BC, slots := BS, locals := 4892 } : Room) s m args below meth c D dA ad0 g0 A Q Xq BC BS H locs (1) (10) (F0 m 3 ls [rv ad (200 + gN g)])
  refine ph_dup_r X dX9_bed_3 ?_
  obtain ⟨b308, d309, hF⟩ := hF
  obtain ⟨hd310, hF⟩ := hF
  refine hg_callN [] [pX (200 + gN g)] X hP (cg_nz hP hk307.1 (by decide)) (met_X2_init l D dA ad _ _ _ _ _ hF) (⟨va_cnB 0 X.2.2.2.2.1 (lw_meth q152) rfl rfl rfl (X.2.2.2.2.2.2.1.2.1 _ q1283 rfl) (X.2.2.2.2.1 _ q99) (by decide +kernel) ⟨Nat.le_of_ble_eq_true rfl, Nat.le_of_ble_eq_true rfl⟩, rfl, X.2.2.2.2.1 _ q151⟩) rfl hag hl (ltlp (ltm hx302 (Nat.le_of_succ_le he306)) ltln) (ltsp (ltw he306) ltsn) (k8 := 1) (csr (cs0 (k := 0))) (by decide) hd310 dX9_bed_4 rfl (fun ad g311 ι312 H locs hF X hP hag he313 hl => ?_)
  show WYq p l e ({ frames := 181, cells := BC, slots := BS, locals := 4892 } : Room) s m args below meth c D dA ad0 g0 A Q Xq BC BS H locs (1 + b308) (10 + d309) (F0 m 7 ls [rv ad (200 + gN g)])
  refine ph_astore_n X hl dX9_bed_7 rfl (by decide) rfl (fun ls hl => ?_)
  obtain ⟨n9, hF⟩ := hF
  exact w_X9_bed_8 hlt hex n9 _ _ _ _ _ _ _ _ _ _ hF X hP hag (lh_sub hl [1, 0] rfl)
set_option maxHeartbeats 2000000 in
theorem met_X9_bed (l : Launch) (D : va_G) (dA : Nat → ClassId) (ad : Nat → Nat) (BC BS : Nat) (hlt : l.stackTraces = false) {Xq : Nat → Nat → GT → S → Prop} (g : GT) (ι : S) (sz : Nat) {a0 : Nat} {Q : Nat → GT → S → Prop} (hF : P_X9_bed BC BS Xq a0 g ι Q) : CYq l yX9_bed cX9_bed 3 (.object "SpoonRow$Bed") ({ frames := 181, cells := BC, slots := BS, locals := 4892 } : Room) D dA ad g ι sz [pX a0] Q Xq BC BS := by
  refine yg_enter [pX a0] (Qc := fun A => HPq D dA ad g A Q) (XC := fun A => XHC D dA ad g A Xq) (by decide +kernel) (Nat.le_of_ble_eq_true rfl) ?_
  intro p e s m args below meth c A ls X hP hl hex
  exact we_X9_bed hlt hex _ _ _ _ _ _ _ hF X hP HA.rf hl
end HGA
