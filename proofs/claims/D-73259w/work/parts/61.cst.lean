/-! THE TWO MEMORIES behind the constructors, by evaluation -/
set_option maxRecDepth 100000
def MoI : Option (Unit × Sp × Dt) := Mo_init 0 (mmNew Sp0 (9, 0) 62) (mmNewD Sp0 Dt0)
def WsI : Option (Unit × Sp × Dt) := Ws_init 0 (mmNew Sp0 (0, 0) 36) (mmNewD Sp0 Dt0)
theorem MoI_some : MoI.isSome = true := by decide +kernel
theorem WsI_some : WsI.isSome = true := by decide +kernel
def MoS : Sp := (MoI.get MoI_some).2.1
def MoD : Dt := (MoI.get MoI_some).2.2
def WsS : Sp := (WsI.get WsI_some).2.1
def WsD : Dt := (WsI.get WsI_some).2.2
theorem get_eq {α β : Type} (o : Option (Unit × α × β)) (h : o.isSome = true) : o = some ((), (o.get h).2.1, (o.get h).2.2) := by
  cases o with
  | none => cases h
  | some q => rfl
theorem MoI_eq : Mo_init 0 (mmNew Sp0 (9, 0) 62) (mmNewD Sp0 Dt0) = some ((), MoS, MoD) := get_eq MoI MoI_some
theorem WsI_eq : Ws_init 0 (mmNew Sp0 (0, 0) 36) (mmNewD Sp0 Dt0) = some ((), WsS, WsD) := get_eq WsI WsI_some
def MoL : List (Nat × Nat) := [(9, 0), (50, 201), (50, 603), (51, 3), (52, 1000), (50, 5), (50, 201), (50, 6), (50, 5), (50, 5), (50, 5), (50, 5), (50, 5), (50, 64), (50, 5), (50, 5), (50, 5), (50, 5), (50, 5), (50, 5), (50, 5), (51, 5), (50, 5), (50, 5), (53, 5), (50, 5), (51, 5), (50, 5), (50, 5), (53, 5), (54, 5), (50, 5), (50, 1000), (50, 255), (51, 19), (51, 3), (51, 3), (50, 200), (50, 4000), (50, 4000), (50, 4000), (50, 4000)]
theorem MoS_sh : MoS.1 = MoL := by decide +kernel
theorem MoS_c : MoS.2.2 = (42, 19740) := by decide +kernel
theorem MoS_R0_1 : MoS.2.1 0 1 = some 1 := by decide +kernel
theorem MoS_R0_2 : MoS.2.1 0 2 = some 2 := by decide +kernel
theorem MoS_R0_3 : MoS.2.1 0 3 = some 3 := by decide +kernel
theorem MoS_R0_4 : MoS.2.1 0 4 = some 4 := by decide +kernel
theorem MoS_R0_6 : MoS.2.1 0 6 = some 5 := by decide +kernel
theorem MoS_R0_14 : MoS.2.1 0 14 = some 6 := by decide +kernel
theorem MoS_R0_15 : MoS.2.1 0 15 = some 7 := by decide +kernel
theorem MoS_R0_16 : MoS.2.1 0 16 = some 8 := by decide +kernel
theorem MoS_R0_17 : MoS.2.1 0 17 = some 9 := by decide +kernel
theorem MoS_R0_18 : MoS.2.1 0 18 = some 10 := by decide +kernel
theorem MoS_R0_19 : MoS.2.1 0 19 = some 11 := by decide +kernel
theorem MoS_R0_20 : MoS.2.1 0 20 = some 12 := by decide +kernel
theorem MoS_R0_22 : MoS.2.1 0 22 = some 13 := by decide +kernel
theorem MoS_R0_28 : MoS.2.1 0 28 = some 14 := by decide +kernel
theorem MoS_R0_29 : MoS.2.1 0 29 = some 15 := by decide +kernel
theorem MoS_R0_30 : MoS.2.1 0 30 = some 16 := by decide +kernel
theorem MoS_R0_31 : MoS.2.1 0 31 = some 17 := by decide +kernel
theorem MoS_R0_32 : MoS.2.1 0 32 = some 18 := by decide +kernel
theorem MoS_R0_33 : MoS.2.1 0 33 = some 19 := by decide +kernel
theorem MoS_R0_34 : MoS.2.1 0 34 = some 20 := by decide +kernel
theorem MoS_R0_35 : MoS.2.1 0 35 = some 21 := by decide +kernel
theorem MoS_R0_36 : MoS.2.1 0 36 = some 22 := by decide +kernel
theorem MoS_R0_37 : MoS.2.1 0 37 = some 23 := by decide +kernel
theorem MoS_R0_38 : MoS.2.1 0 38 = some 24 := by decide +kernel
theorem MoS_R0_39 : MoS.2.1 0 39 = some 25 := by decide +kernel
theorem MoS_R0_40 : MoS.2.1 0 40 = some 26 := by decide +kernel
theorem MoS_R0_41 : MoS.2.1 0 41 = some 27 := by decide +kernel
theorem MoS_R0_42 : MoS.2.1 0 42 = some 28 := by decide +kernel
theorem MoS_R0_43 : MoS.2.1 0 43 = some 29 := by decide +kernel
theorem MoS_R0_44 : MoS.2.1 0 44 = some 30 := by decide +kernel
theorem MoS_R0_45 : MoS.2.1 0 45 = some 31 := by decide +kernel
theorem MoS_R0_46 : MoS.2.1 0 46 = some 32 := by decide +kernel
theorem MoS_R0_47 : MoS.2.1 0 47 = some 33 := by decide +kernel
theorem MoS_R0_48 : MoS.2.1 0 48 = some 34 := by decide +kernel
theorem MoS_R0_49 : MoS.2.1 0 49 = some 35 := by decide +kernel
theorem MoS_R0_50 : MoS.2.1 0 50 = some 36 := by decide +kernel
theorem MoS_R0_51 : MoS.2.1 0 51 = some 37 := by decide +kernel
theorem MoS_R0_52 : MoS.2.1 0 52 = some 38 := by decide +kernel
theorem MoS_R0_53 : MoS.2.1 0 53 = some 39 := by decide +kernel
theorem MoS_R0_54 : MoS.2.1 0 54 = some 40 := by decide +kernel
theorem MoS_R0_55 : MoS.2.1 0 55 = some 41 := by decide +kernel
def WsL : List (Nat × Nat) := [(0, 0), (1, 0), (16, 0), (58, 5), (16, 0), (58, 18), (50, 3), (55, 3), (52, 1000), (50, 64), (50, 5), (56, 4), (2, 0), (3, 0), (4, 0), (5, 0), (57, 5), (50, 200), (50, 3), (50, 3), (51, 3), (50, 3000), (50, 3000), (50, 3000), (50, 3000), (50, 5), (50, 5), (50, 19), (6, 0), (7, 0), (8, 0), (8, 0), (8, 0), (8, 0), (8, 0)]
theorem WsS_sh : WsS.1 = WsL := by decide +kernel
theorem WsS_c : WsS.2.2 = (35, 13506) := by decide +kernel
theorem WsS_R0_0 : WsS.2.1 0 0 = some 1 := by decide +kernel
theorem WsS_R0_1 : WsS.2.1 0 1 = some 7 := by decide +kernel
theorem WsS_R0_2 : WsS.2.1 0 2 = some 8 := by decide +kernel
theorem WsS_R0_8 : WsS.2.1 0 8 = some 9 := by decide +kernel
theorem WsS_R0_9 : WsS.2.1 0 9 = some 10 := by decide +kernel
theorem WsS_R0_11 : WsS.2.1 0 11 = some 11 := by decide +kernel
theorem WsS_R0_12 : WsS.2.1 0 12 = some 16 := by decide +kernel
theorem WsS_R0_13 : WsS.2.1 0 13 = some 17 := by decide +kernel
theorem WsS_R0_14 : WsS.2.1 0 14 = some 18 := by decide +kernel
theorem WsS_R0_15 : WsS.2.1 0 15 = some 19 := by decide +kernel
theorem WsS_R0_16 : WsS.2.1 0 16 = some 20 := by decide +kernel
theorem WsS_R0_17 : WsS.2.1 0 17 = some 21 := by decide +kernel
theorem WsS_R0_18 : WsS.2.1 0 18 = some 22 := by decide +kernel
theorem WsS_R0_19 : WsS.2.1 0 19 = some 23 := by decide +kernel
theorem WsS_R0_20 : WsS.2.1 0 20 = some 24 := by decide +kernel
theorem WsS_R0_21 : WsS.2.1 0 21 = some 25 := by decide +kernel
theorem WsS_R0_22 : WsS.2.1 0 22 = some 26 := by decide +kernel
theorem WsS_R0_23 : WsS.2.1 0 23 = some 27 := by decide +kernel
theorem WsS_R0_32 : WsS.2.1 0 32 = some 28 := by decide +kernel
theorem WsS_R0_33 : WsS.2.1 0 33 = some 29 := by decide +kernel
theorem WsS_R1_0 : WsS.2.1 1 0 = some 2 := by decide +kernel
theorem WsS_R1_1 : WsS.2.1 1 1 = some 4 := by decide +kernel
theorem WsS_R1_2 : WsS.2.1 1 2 = some 6 := by decide +kernel
theorem WsS_R2_1 : WsS.2.1 2 1 = some 3 := by decide +kernel
theorem WsS_R4_1 : WsS.2.1 4 1 = some 5 := by decide +kernel
theorem WsS_R11_0 : WsS.2.1 11 0 = some 12 := by decide +kernel
theorem WsS_R11_1 : WsS.2.1 11 1 = some 13 := by decide +kernel
theorem WsS_R11_2 : WsS.2.1 11 2 = some 14 := by decide +kernel
theorem WsS_R11_3 : WsS.2.1 11 3 = some 15 := by decide +kernel
theorem WsS_R12_0 : WsS.2.1 12 0 = some 0 := by decide +kernel
theorem WsS_R13_0 : WsS.2.1 13 0 = some 0 := by decide +kernel
theorem WsS_R13_1 : WsS.2.1 13 1 = some 0 := by decide +kernel
theorem WsS_R14_0 : WsS.2.1 14 0 = some 0 := by decide +kernel
theorem WsS_R14_1 : WsS.2.1 14 1 = some 0 := by decide +kernel
theorem WsS_R14_2 : WsS.2.1 14 2 = some 0 := by decide +kernel
theorem WsS_R15_0 : WsS.2.1 15 0 = some 0 := by decide +kernel
theorem WsS_R15_1 : WsS.2.1 15 1 = some 0 := by decide +kernel
theorem WsS_R15_2 : WsS.2.1 15 2 = some 0 := by decide +kernel
theorem WsS_R15_3 : WsS.2.1 15 3 = some 0 := by decide +kernel
theorem WsS_R16_0 : WsS.2.1 16 0 = some 30 := by decide +kernel
theorem WsS_R16_1 : WsS.2.1 16 1 = some 31 := by decide +kernel
theorem WsS_R16_2 : WsS.2.1 16 2 = some 32 := by decide +kernel
theorem WsS_R16_3 : WsS.2.1 16 3 = some 33 := by decide +kernel
theorem WsS_R16_4 : WsS.2.1 16 4 = some 34 := by decide +kernel

