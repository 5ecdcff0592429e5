/-! WHOLE_START out of the plain law: what it must give, call by call; the loop; the start -/
set_option maxRecDepth 100000
abbrev RelT : Type := Nat → Sp → Dt → Sp → Dt → Prop
def PLo (Rel : RelT) : Prop := ∀ n S1 d1 S2 d2, n ≤ 64 → Rel n S1 d1 S2 d2 → isK S1 0 (some 0) = some 0 ∧ isK S2 9 (some 0) = some 0 ∧ S1.1.length ≤ OPQ ∧ S2.1.length ≤ OPQ ∧ S1.2.2.1 + S2.2.2.1 ≤ 1136687 ∧ S1.2.2.2 + S2.2.2.2 ≤ 5675420
def PLm (Rel : RelT) : Prop := ∀ n S1 d1 S2 d2, Rel n S1 d1 S2 d2 → Rel (n + 1) S1 d1 S2 d2
/-- the empty memory -/
def Sp0 : Sp := ([], fun _ _ => none, 0, 0)
def Dt0 : Dt := (fun _ _ => 0, fun _ _ => 0, fun _ _ => 0)
def PLi (Rel : RelT) : Prop := ∃ S1 d1 S2 d2, Ws_init 0 (mmNew Sp0 (0, 0) 36) (mmNewD Sp0 Dt0) = some ((), S1, d1) ∧ Mo_init 0 (mmNew Sp0 (9, 0) 62) (mmNewD Sp0 Dt0) = some ((), S2, d2) ∧ Rel 0 S1 d1 S2 d2
def PL_0 (Rel : RelT) : Prop := ∀ n S1 d1 S2 d2 (p1 p2 p3 p4 p5 : Int32), n < 64 → Rel n S1 d1 S2 d2 → ∃ (a : Int32) (T1 : Sp) (b1 : Dt) (b2 : Dt), Ws_feed 0 p1 p2 p3 p4 p5 S1 d1 = some (a, T1, b1) ∧ Mo_feed 0 p1 p2 p3 p4 p5 S2 d2 = some (a, b2) ∧ Rel (n + 1) T1 b1 S2 b2
def PL_1 (Rel : RelT) : Prop := ∀ n S1 d1 S2 d2 (p1 : Int32), n < 64 → Rel n S1 d1 S2 d2 → ∃ (a : Int32) (b1 : Dt) (b2 : Dt), Ws_end 0 p1 S1 d1 = some (a, b1) ∧ Mo_end 0 p1 S2 d2 = some (a, b2) ∧ Rel (n + 1) S1 b1 S2 b2
def PL_2 (Rel : RelT) : Prop := ∀ n S1 d1 S2 d2, n < 64 → Rel n S1 d1 S2 d2 → ∃ (a : Int32) (T1 : Sp) (b1 : Dt) (b2 : Dt), Ws_board 0 S1 d1 = some (a, T1, b1) ∧ Mo_board 0 S2 d2 = some (a, b2) ∧ Rel (n + 1) T1 b1 S2 b2
def PL_3 (Rel : RelT) : Prop := ∀ n S1 d1 S2 d2 (p1 : Int32), n < 64 → Rel n S1 d1 S2 d2 → ∃ (a : Int32), Ws_fault 0 p1 S1 d1 = some a ∧ Mo_fault 0 p1 S2 d2 = some a ∧ Rel (n + 1) S1 d1 S2 d2
def PL_4 (Rel : RelT) : Prop := ∀ n S1 d1 S2 d2 (p1 p2 : Int32), n < 64 → Rel n S1 d1 S2 d2 → ∃ (a : Int32), Ws_task 0 p1 p2 S1 d1 = some a ∧ Mo_task 0 p1 p2 S2 d2 = some a ∧ Rel (n + 1) S1 d1 S2 d2
def PL_5 (Rel : RelT) : Prop := ∀ n S1 d1 S2 d2 (p1 p2 p3 : Int32), n < 64 → Rel n S1 d1 S2 d2 → ∃ (a : Int32), Ws_node 0 p1 p2 p3 S1 d1 = some a ∧ Mo_node 0 p1 p2 p3 S2 d2 = some a ∧ Rel (n + 1) S1 d1 S2 d2
def PL_6 (Rel : RelT) : Prop := ∀ n S1 d1 S2 d2 (p1 : Int32), n < 64 → Rel n S1 d1 S2 d2 → ∃ (a : Int32), Ws_watcher 0 p1 S1 d1 = some a ∧ Mo_watcher 0 p1 S2 d2 = some a ∧ Rel (n + 1) S1 d1 S2 d2
def PL_7 (Rel : RelT) : Prop := ∀ n S1 d1 S2 d2 (p1 p2 : Int32), n < 64 → Rel n S1 d1 S2 d2 → ∃ (a : Int32), Ws_injection 0 p1 p2 S1 d1 = some a ∧ Mo_injection 0 p1 p2 S2 d2 = some a ∧ Rel (n + 1) S1 d1 S2 d2
def PL_8 (Rel : RelT) : Prop := ∀ n S1 d1 S2 d2 (p1 p2 : Int32), n < 64 → Rel n S1 d1 S2 d2 → ∃ (a : Int32) (b2 : Dt), Ws_cost 0 p1 p2 S1 d1 = some a ∧ Mo_cost 0 p1 p2 S2 d2 = some (a, b2) ∧ Rel (n + 1) S1 d1 S2 b2
def PL_9 (Rel : RelT) : Prop := ∀ n S1 d1 S2 d2 (p1 : Int32), n < 64 → Rel n S1 d1 S2 d2 → ∃ (a : Int32) (b2 : Dt), Ws_ways 0 p1 S1 d1 = some a ∧ Mo_ways 0 p1 S2 d2 = some (a, b2) ∧ Rel (n + 1) S1 d1 S2 b2
def PL_10 (Rel : RelT) : Prop := ∀ n S1 d1 S2 d2 (p1 : Int32), n < 64 → Rel n S1 d1 S2 d2 → ∃ (a : Int32) (b2 : Dt), Ws_response 0 p1 S1 d1 = some a ∧ Mo_response 0 p1 S2 d2 = some (a, b2) ∧ Rel (n + 1) S1 d1 S2 b2
def PL_11 (Rel : RelT) : Prop := ∀ n S1 d1 S2 d2 (p1 p2 : Int32), n < 64 → Rel n S1 d1 S2 d2 → ∃ (a : Int32) (b2 : Dt), Ws_least 0 p1 p2 S1 d1 = some a ∧ Mo_least 0 p1 p2 S2 d2 = some (a, b2) ∧ Rel (n + 1) S1 d1 S2 b2
def PL_12 (Rel : RelT) : Prop := ∀ n S1 d1 S2 d2 (p1 : Int32), n < 64 → Rel n S1 d1 S2 d2 → ∃ (a : Int32) (b1 : Dt) (b2 : Dt), Ws_room 0 p1 S1 d1 = some (a, b1) ∧ Mo_room 0 p1 S2 d2 = some (a, b2) ∧ Rel (n + 1) S1 b1 S2 b2
def PL_13 (Rel : RelT) : Prop := ∀ n S1 d1 S2 d2, n < 64 → Rel n S1 d1 S2 d2 → ∃ (a : Int32) (b1 : Dt) (b2 : Dt), Ws_orders 0 S1 d1 = some (a, b1) ∧ Mo_orders 0 S2 d2 = some (a, b2) ∧ Rel (n + 1) S1 b1 S2 b2
def PL_14 (Rel : RelT) : Prop := ∀ n S1 d1 S2 d2 (p1 : Int32), n < 64 → Rel n S1 d1 S2 d2 → ∃ (a : Int32) (b1 : Dt) (b2 : Dt), Ws_order 0 p1 S1 d1 = some (a, b1) ∧ Mo_order 0 p1 S2 d2 = some (a, b2) ∧ Rel (n + 1) S1 b1 S2 b2
def PL_15 (Rel : RelT) : Prop := ∀ n S1 d1 S2 d2 (p1 p2 p3 : Int32), n < 64 → Rel n S1 d1 S2 d2 → ∃ (a : Int32), Ws_path 0 p1 p2 p3 S1 d1 = some a ∧ Mo_path 0 p1 p2 p3 S2 d2 = some a ∧ Rel (n + 1) S1 d1 S2 d2
def PL_16 (Rel : RelT) : Prop := ∀ n S1 d1 S2 d2 (p1 p2 p3 : Int32), n < 64 → Rel n S1 d1 S2 d2 → ∃ (a : Int32), Ws_answer 0 p1 p2 p3 S1 d1 = some a ∧ Mo_answer 0 p1 p2 p3 S2 d2 = some a ∧ Rel (n + 1) S1 d1 S2 d2
def PL_17 (Rel : RelT) : Prop := ∀ n S1 d1 S2 d2 (p1 p2 : Int32), n < 64 → Rel n S1 d1 S2 d2 → ∃ (a : Int32) (b1 : Dt) (b2 : Dt), Ws_alike 0 p1 p2 S1 d1 = some (a, b1) ∧ Mo_alike 0 p1 p2 S2 d2 = some (a, b2) ∧ Rel (n + 1) S1 b1 S2 b2
def PL_18 (Rel : RelT) : Prop := ∀ n S1 d1 S2 d2, n < 64 → Rel n S1 d1 S2 d2 → ∃ (a : Int32) (b2 : Dt), Ws_lawful 0 S1 d1 = some a ∧ Mo_lawful 0 S2 d2 = some (a, b2) ∧ Rel (n + 1) S1 d1 S2 b2
def PL_19 (Rel : RelT) : Prop := ∀ n S1 d1 S2 d2, n < 64 → Rel n S1 d1 S2 d2 → ∃ (a : Int32) (b2 : Dt), Ws_load 0 S1 d1 = some a ∧ Mo_load 0 S2 d2 = some (a, b2) ∧ Rel (n + 1) S1 d1 S2 b2
def PL_20 (Rel : RelT) : Prop := ∀ n S1 d1 S2 d2 (p1 : Int32), n < 64 → Rel n S1 d1 S2 d2 → ∃ (a : Int32) (T1 : Sp) (b1 : Dt) (b2 : Dt), Ws_had 0 p1 S1 d1 = some (a, T1, b1) ∧ Mo_had 0 p1 S2 d2 = some (a, b2) ∧ Rel (n + 1) T1 b1 S2 b2
def PL_21 (Rel : RelT) : Prop := ∀ n S1 d1 S2 d2 (p1 : Int32), n < 64 → Rel n S1 d1 S2 d2 → ∃ (a : Int32) (T1 : Sp) (b1 : Dt) (b2 : Dt), Ws_idle 0 p1 S1 d1 = some (a, T1, b1) ∧ Mo_idle 0 p1 S2 d2 = some (a, b2) ∧ Rel (n + 1) T1 b1 S2 b2
def PL_22 (Rel : RelT) : Prop := ∀ n S1 d1 S2 d2 (p1 p2 : Int32), n < 64 → Rel n S1 d1 S2 d2 → ∃ (a : Int32) (T1 : Sp) (b1 : Dt) (b2 : Dt), Ws_kicks_2 0 p1 p2 S1 d1 = some (a, T1, b1) ∧ Mo_kicks 0 p1 p2 S2 d2 = some (a, b2) ∧ Rel (n + 1) T1 b1 S2 b2
def PL_23 (Rel : RelT) : Prop := ∀ n S1 d1 S2 d2 (p1 p2 : Int32), n < 64 → Rel n S1 d1 S2 d2 → ∃ (a : Int32) (T1 : Sp) (b1 : Dt) (b2 : Dt), Ws_kicked 0 p1 p2 S1 d1 = some (a, T1, b1) ∧ Mo_kicked 0 p1 p2 S2 d2 = some (a, b2) ∧ Rel (n + 1) T1 b1 S2 b2
def PL_24 (Rel : RelT) : Prop := ∀ n S1 d1 S2 d2 (p1 p2 : Int32), n < 64 → Rel n S1 d1 S2 d2 → ∃ (a : Int32) (T1 : Sp) (b1 : Dt) (b2 : Dt), Ws_gap 0 p1 p2 S1 d1 = some (a, T1, b1) ∧ Mo_gap 0 p1 p2 S2 d2 = some (a, b2) ∧ Rel (n + 1) T1 b1 S2 b2
def PL_25 (Rel : RelT) : Prop := ∀ n S1 d1 S2 d2 (p1 p2 : Int32), n < 64 → Rel n S1 d1 S2 d2 → ∃ (a : Int32) (T1 : Sp) (b1 : Dt) (b2 : Dt), Ws_jobs 0 p1 p2 S1 d1 = some (a, T1, b1) ∧ Mo_jobs 0 p1 p2 S2 d2 = some (a, b2) ∧ Rel (n + 1) T1 b1 S2 b2
def PL_26 (Rel : RelT) : Prop := ∀ n S1 d1 S2 d2 (p1 p2 : Int32), n < 64 → Rel n S1 d1 S2 d2 → ∃ (a : Int32) (T1 : Sp) (b1 : Dt) (b2 : Dt), Ws_at_2 0 p1 p2 S1 d1 = some (a, T1, b1) ∧ Mo_at 0 p1 p2 S2 d2 = some (a, b2) ∧ Rel (n + 1) T1 b1 S2 b2
def PL_27 (Rel : RelT) : Prop := ∀ n S1 d1 S2 d2 (p1 p2 : Int32), n < 64 → Rel n S1 d1 S2 d2 → ∃ (a : Int32) (T1 : Sp) (b1 : Dt) (b2 : Dt), Ws_question 0 p1 p2 S1 d1 = some (a, T1, b1) ∧ Mo_question 0 p1 p2 S2 d2 = some (a, b2) ∧ Rel (n + 1) T1 b1 S2 b2
def PL_28 (Rel : RelT) : Prop := ∀ n S1 d1 S2 d2 (p1 p2 : Int32), n < 64 → Rel n S1 d1 S2 d2 → ∃ (a : Int32) (T1 : Sp) (b1 : Dt) (b2 : Dt), Ws_start 0 p1 p2 S1 d1 = some (a, T1, b1) ∧ Mo_start 0 p1 p2 S2 d2 = some (a, b2) ∧ Rel (n + 1) T1 b1 S2 b2
def PL_29 (Rel : RelT) : Prop := ∀ n S1 d1 S2 d2 (p1 p2 : Int32), n < 64 → Rel n S1 d1 S2 d2 → ∃ (a : Int32) (T1 : Sp) (b1 : Dt) (b2 : Dt), Ws_memory 0 p1 p2 S1 d1 = some (a, T1, b1) ∧ Mo_memory 0 p1 p2 S2 d2 = some (a, b2) ∧ Rel (n + 1) T1 b1 S2 b2
def PL_30 (Rel : RelT) : Prop := ∀ n S1 d1 S2 d2 (p1 p2 : Int32), n < 64 → Rel n S1 d1 S2 d2 → ∃ (a : Int32) (T1 : Sp) (b1 : Dt) (b2 : Dt), Ws_health 0 p1 p2 S1 d1 = some (a, T1, b1) ∧ Mo_health 0 p1 p2 S2 d2 = some (a, b2) ∧ Rel (n + 1) T1 b1 S2 b2
def PL_31 (Rel : RelT) : Prop := ∀ n S1 d1 S2 d2 (p1 p2 : Int32), n < 64 → Rel n S1 d1 S2 d2 → ∃ (a : Int32) (T1 : Sp) (b1 : Dt) (b2 : Dt), Ws_tenths 0 p1 p2 S1 d1 = some (a, T1, b1) ∧ Mo_tenths 0 p1 p2 S2 d2 = some (a, b2) ∧ Rel (n + 1) T1 b1 S2 b2
def PL_32 (Rel : RelT) : Prop := ∀ n S1 d1 S2 d2 (p1 p2 : Int32), n < 64 → Rel n S1 d1 S2 d2 → ∃ (a : Int32) (T1 : Sp) (b1 : Dt) (b2 : Dt), Ws_margin 0 p1 p2 S1 d1 = some (a, T1, b1) ∧ Mo_margin 0 p1 p2 S2 d2 = some (a, b2) ∧ Rel (n + 1) T1 b1 S2 b2
def PL_33 (Rel : RelT) : Prop := ∀ n S1 d1 S2 d2 (p1 p2 : Int32), n < 64 → Rel n S1 d1 S2 d2 → ∃ (a : Int64) (T1 : Sp) (b1 : Dt) (b2 : Dt), Ws_mean 0 p1 p2 S1 d1 = some (a, T1, b1) ∧ Mo_mean 0 p1 p2 S2 d2 = some (a, b2) ∧ Rel (n + 1) T1 b1 S2 b2
def PL_34 (Rel : RelT) : Prop := ∀ n S1 d1 S2 d2 (p1 : Int32), n < 64 → Rel n S1 d1 S2 d2 → ∃ (a : Int32) (T1 : Sp) (b1 : Dt) (b2 : Dt), Ws_faults_2 0 p1 S1 d1 = some (a, T1, b1) ∧ Mo_faults 0 p1 S2 d2 = some (a, b2) ∧ Rel (n + 1) T1 b1 S2 b2
def PL_35 (Rel : RelT) : Prop := ∀ n S1 d1 S2 d2 (p1 p2 : Int32), n < 64 → Rel n S1 d1 S2 d2 → ∃ (a : Int32) (T1 : Sp) (b1 : Dt) (b2 : Dt), Ws_record 0 p1 p2 S1 d1 = some (a, T1, b1) ∧ Mo_record 0 p1 p2 S2 d2 = some (a, b2) ∧ Rel (n + 1) T1 b1 S2 b2
def PL_36 (Rel : RelT) : Prop := ∀ n S1 d1 S2 d2 (p1 : Int32), n < 64 → Rel n S1 d1 S2 d2 → ∃ (a : Int32) (T1 : Sp) (b1 : Dt) (b2 : Dt), Ws_ledger 0 p1 S1 d1 = some (a, T1, b1) ∧ Mo_ledger 0 p1 S2 d2 = some (a, b2) ∧ Rel (n + 1) T1 b1 S2 b2
def PL_37 (Rel : RelT) : Prop := ∀ n S1 d1 S2 d2 (p1 : Int32), n < 64 → Rel n S1 d1 S2 d2 → ∃ (a : Int32) (T1 : Sp) (b1 : Dt) (b2 : Dt), Ws_kinds 0 p1 S1 d1 = some (a, T1, b1) ∧ Mo_kinds 0 p1 S2 d2 = some (a, b2) ∧ Rel (n + 1) T1 b1 S2 b2
def PL_38 (Rel : RelT) : Prop := ∀ n S1 d1 S2 d2 (p1 p2 : Int32), n < 64 → Rel n S1 d1 S2 d2 → ∃ (a : Int32) (T1 : Sp) (b1 : Dt) (b2 : Dt), Ws_levels 0 p1 p2 S1 d1 = some (a, T1, b1) ∧ Mo_levels 0 p1 p2 S2 d2 = some (a, b2) ∧ Rel (n + 1) T1 b1 S2 b2
def PL_39 (Rel : RelT) : Prop := ∀ n S1 d1 S2 d2, n < 64 → Rel n S1 d1 S2 d2 → ∃ (a : Int32) (T1 : Sp) (b1 : Dt) (b2 : Dt), Ws_halts 0 S1 d1 = some (a, T1, b1) ∧ Mo_halts 0 S2 d2 = some (a, b2) ∧ Rel (n + 1) T1 b1 S2 b2
def PL_40 (Rel : RelT) : Prop := ∀ n S1 d1 S2 d2 (p1 p2 : Int32), n < 64 → Rel n S1 d1 S2 d2 → ∃ (a : Int32) (T1 : Sp) (b1 : Dt) (b2 : Dt), Ws_sleeps 0 p1 p2 S1 d1 = some (a, T1, b1) ∧ Mo_sleeps 0 p1 p2 S2 d2 = some (a, b2) ∧ Rel (n + 1) T1 b1 S2 b2
def PL_41 (Rel : RelT) : Prop := ∀ n S1 d1 S2 d2 (p1 : Int32), n < 64 → Rel n S1 d1 S2 d2 → ∃ (a : Int32) (T1 : Sp) (b1 : Dt) (b2 : Dt), Ws_caught 0 p1 S1 d1 = some (a, T1, b1) ∧ Mo_caught 0 p1 S2 d2 = some (a, b2) ∧ Rel (n + 1) T1 b1 S2 b2
def PL_42 (Rel : RelT) : Prop := ∀ n S1 d1 S2 d2 (p1 : Int32), n < 64 → Rel n S1 d1 S2 d2 → ∃ (a : Int32) (T1 : Sp) (b1 : Dt) (b2 : Dt), Ws_without 0 p1 S1 d1 = some (a, T1, b1) ∧ Mo_without 0 p1 S2 d2 = some (a, b2) ∧ Rel (n + 1) T1 b1 S2 b2
def PL_43 (Rel : RelT) : Prop := ∀ n S1 d1 S2 d2, n < 64 → Rel n S1 d1 S2 d2 → ∃ (a : Int32) (T1 : Sp) (b1 : Dt) (b2 : Dt), Ws_blame 0 S1 d1 = some (a, T1, b1) ∧ Mo_blame 0 S2 d2 = some (a, b2) ∧ Rel (n + 1) T1 b1 S2 b2
def PL_44 (Rel : RelT) : Prop := ∀ n S1 d1 S2 d2 (p1 p2 p3 : Int32), n < 64 → Rel n S1 d1 S2 d2 → ∃ (a : Int32) (T1 : Sp) (b1 : Dt) (b2 : Dt), Ws_with 0 p1 p2 p3 S1 d1 = some (a, T1, b1) ∧ Mo_with 0 p1 p2 p3 S2 d2 = some (a, b2) ∧ Rel (n + 1) T1 b1 S2 b2
def PL_45 (Rel : RelT) : Prop := ∀ n S1 d1 S2 d2 (p1 : Int32), n < 64 → Rel n S1 d1 S2 d2 → ∃ (a : Int32) (T1 : Sp) (b1 : Dt) (b2 : Dt), Ws_tight 0 p1 S1 d1 = some (a, T1, b1) ∧ Mo_tight 0 p1 S2 d2 = some (a, b2) ∧ Rel (n + 1) T1 b1 S2 b2
def PL_46 (Rel : RelT) : Prop := ∀ n S1 d1 S2 d2 (p1 : Int32), n < 64 → Rel n S1 d1 S2 d2 → ∃ (a : Int32) (T1 : Sp) (b1 : Dt) (b2 : Dt), Ws_loose 0 p1 S1 d1 = some (a, T1, b1) ∧ Mo_loose 0 p1 S2 d2 = some (a, b2) ∧ Rel (n + 1) T1 b1 S2 b2
def PL_47 (Rel : RelT) : Prop := ∀ n S1 d1 S2 d2 (p1 p2 : Int32), n < 64 → Rel n S1 d1 S2 d2 → ∃ (a : Int32) (T1 : Sp) (b1 : Dt) (b2 : Dt), Ws_longest 0 p1 p2 S1 d1 = some (a, T1, b1) ∧ Mo_longest 0 p1 p2 S2 d2 = some (a, b2) ∧ Rel (n + 1) T1 b1 S2 b2
def PL_48 (Rel : RelT) : Prop := ∀ n S1 d1 S2 d2 (p1 p2 : Int32), n < 64 → Rel n S1 d1 S2 d2 → ∃ (a : Int32) (T1 : Sp) (b1 : Dt) (b2 : Dt), Ws_silent 0 p1 p2 S1 d1 = some (a, T1, b1) ∧ Mo_silent 0 p1 p2 S2 d2 = some (a, b2) ∧ Rel (n + 1) T1 b1 S2 b2
def PL_49 (Rel : RelT) : Prop := ∀ n S1 d1 S2 d2 (p1 p2 p3 p4 p5 : Int32), n < 64 → Rel n S1 d1 S2 d2 → ∃ (a : Int32) (T1 : Sp) (b1 : Dt) (b2 : Dt), Ws_inject 0 p1 p2 p3 p4 p5 S1 d1 = some (a, T1, b1) ∧ Mo_inject 0 p1 p2 p3 p4 p5 S2 d2 = some (a, b2) ∧ Rel (n + 1) T1 b1 S2 b2
def PL_50 (Rel : RelT) : Prop := ∀ n S1 d1 S2 d2, n < 64 → Rel n S1 d1 S2 d2 → ∃ (a : Int32) (T1 : Sp) (b1 : Dt) (b2 : Dt), Ws_undo 0 S1 d1 = some (a, T1, b1) ∧ Mo_undo 0 S2 d2 = some (a, b2) ∧ Rel (n + 1) T1 b1 S2 b2
def PL_51 (Rel : RelT) : Prop := ∀ n S1 d1 S2 d2, n < 64 → Rel n S1 d1 S2 d2 → ∃ (a : Int32) (T1 : Sp) (b1 : Dt) (b2 : Dt), Ws_anew 0 S1 d1 = some (a, T1, b1) ∧ Mo_anew 0 S2 d2 = some (a, b2) ∧ Rel (n + 1) T1 b1 S2 b2
def PL_52 (Rel : RelT) : Prop := ∀ n S1 d1 S2 d2 (p1 : Int32), n < 64 → Rel n S1 d1 S2 d2 → ∃ (a : Int32), Ws_count 0 p1 S1 d1 = some a ∧ Mo_count 0 p1 S2 d2 = some a ∧ Rel (n + 1) S1 d1 S2 d2
def PL_53 (Rel : RelT) : Prop := ∀ n S1 d1 S2 d2 (p1 : Int32), n < 64 → Rel n S1 d1 S2 d2 → ∃ (a : Int32) (T1 : Sp) (b1 : Dt) (b2 : Dt), Ws_image 0 p1 S1 d1 = some (a, T1, b1) ∧ Mo_image 0 p1 S2 d2 = some (a, b2) ∧ Rel (n + 1) T1 b1 S2 b2
def PL_54 (Rel : RelT) : Prop := ∀ n S1 d1 S2 d2 (p1 : Int32), n < 64 → Rel n S1 d1 S2 d2 → ∃ (a : Int32) (T1 : Sp) (b1 : Dt) (b2 : Dt), Ws_back 0 p1 S1 d1 = some (a, T1, b1) ∧ Mo_back 0 p1 S2 d2 = some (a, b2) ∧ Rel (n + 1) T1 b1 S2 b2
theorem lw_fit : ∀ L, L < 385 → ∀ n, n < 65 → ¬ (Int32.ofNat L - 6 < nI (6 * n)) → 6 * n + 6 ≤ L := by decide +kernel
section
variable {p : Program} {l : Launch} {e : Env} {s : State} {m : MethodId} {below : List Frame} {meth : Method} {c : Code} {dC : Nat → ClassId} {dI : Nat → Nat → Nat} {dA : Nat → ClassId} {oa : Nat → Nat} {b L : Nat} {xs : Nat → Int32}
theorem lw_tsOut {R : Room} {args : Array Value} {H : Heap} {locs : List Loc} {cells slots : Nat} {Q : State → Prop} {cc : ByteArray} {pc : Nat} {ls : Array Slot} {rest : List Value} (hx : p.tables.exec = Jvm.exec) (hb : c.code = cc) {dflt hi : Int} {offs : Array Int} {len tgt n : Nat} {x : Int32} (hd : decode cc pc = .ok (.tableswitch dflt 0 hi offs, len)) (hn : hi = (n : Int)) (hn9 : n < 2 ^ 31) (hx9 : ∀ k : Nat, k ≤ n → ¬ x = nI k) (ht : (pc : Int) + dflt = (tgt : Int)) (kk : W p l e R s m args below meth c H locs cells slots Q (F0 m tgt ls rest)) : W p l e R s m args below meth c H locs cells slots Q (F0 m pc ls (.int x :: rest)) := by
  refine lv_tableOut hx hb hd ?_ ht kk
  by_cases h0 : x.toInt < 0
  · exact Or.inl h0
  · refine Or.inr (Int.not_le.mp (fun h1 => ?_))
    obtain ⟨j, hj⟩ := Int.eq_ofNat_of_zero_le (Int.not_lt.mp h0)
    refine hx9 j (by omega) (Int32.toInt_inj.mp ?_)
    rw [hj, nI_toInt (by omega)]
theorem lw_tsIn {R : Room} {args : Array Value} {H : Heap} {locs : List Loc} {cells slots : Nat} {Q : State → Prop} {cc : ByteArray} {pc : Nat} {ls : Array Slot} {rest : List Value} (hx : p.tables.exec = Jvm.exec) (hb : c.code = cc) {dflt hi : Int} {offs : Array Int} {len k tgt : Nat} {x : Int32} {off : Int} (hd : decode cc pc = .ok (.tableswitch dflt 0 hi offs, len)) (hx9 : x = nI k) (hk9 : k < 2 ^ 31) (h2 : (k : Int) ≤ hi) (ho : offs[k]? = some off) (ht : (pc : Int) + off = (tgt : Int)) (kk : W p l e R s m args below meth c H locs cells slots Q (F0 m tgt ls rest)) : W p l e R s m args below meth c H locs cells slots Q (F0 m pc ls (.int x :: rest)) := by
  have e : x.toInt = (k : Int) := by rw [hx9]; exact nI_toInt hk9
  exact lv_tableIn hx hb hd (by rw [e]; omega) (by rw [e]; omega) (by rw [e, show ((k : Int) - 0).toNat = k from by omega]; exact ho) ht kk
set_option maxHeartbeats 8000000 in
theorem lw_loop {Rel : RelT} (hfl : l.flags = flags0) (C0 : lw_At p s m meth c b L xs) (hB : LB dC dI dA oa s) (hL : L ≤ 384) (ho : PLo Rel) (hm : PLm Rel) (h0 : PL_0 Rel) (h1 : PL_1 Rel) (h2 : PL_2 Rel) (h3 : PL_3 Rel) (h4 : PL_4 Rel) (h5 : PL_5 Rel) (h6 : PL_6 Rel) (h7 : PL_7 Rel) (h8 : PL_8 Rel) (h9 : PL_9 Rel) (h10 : PL_10 Rel) (h11 : PL_11 Rel) (h12 : PL_12 Rel) (h13 : PL_13 Rel) (h14 : PL_14 Rel) (h15 : PL_15 Rel) (h16 : PL_16 Rel) (h17 : PL_17 Rel) (h18 : PL_18 Rel) (h19 : PL_19 Rel) (h20 : PL_20 Rel) (h21 : PL_21 Rel) (h22 : PL_22 Rel) (h23 : PL_23 Rel) (h24 : PL_24 Rel) (h25 : PL_25 Rel) (h26 : PL_26 Rel) (h27 : PL_27 Rel) (h28 : PL_28 Rel) (h29 : PL_29 Rel) (h30 : PL_30 Rel) (h31 : PL_31 Rel) (h32 : PL_32 Rel) (h33 : PL_33 Rel) (h34 : PL_34 Rel) (h35 : PL_35 Rel) (h36 : PL_36 Rel) (h37 : PL_37 Rel) (h38 : PL_38 Rel) (h39 : PL_39 Rel) (h40 : PL_40 Rel) (h41 : PL_41 Rel) (h42 : PL_42 Rel) (h43 : PL_43 Rel) (h44 : PL_44 Rel) (h45 : PL_45 Rel) (h46 : PL_46 Rel) (h47 : PL_47 Rel) (h48 : PL_48 Rel) (h49 : PL_49 Rel) (h50 : PL_50 Rel) (h51 : PL_51 Rel) (h52 : PL_52 Rel) (h53 : PL_53 Rel) (h54 : PL_54 Rel) : ∀ (f n : Nat), n + f = 64 → ∀ S1 d1 S2 d2, Rel n S1 d1 S2 d2 → LW p l e s m below meth c (lw_Z below #[Value.ref b] s) dC dI dA oa b S1 d1 S2 d2 (nI (6 * n)) 18 := by
  have C1 := C0
  obtain ⟨hx, hb, hr, hml, hown, hts, hX, hbl, hlk, hgv⟩ := C0
  intro f
  induction f with
  | zero =>
    intro n hn S1 d1 S2 d2 hR ρ1 ρ2 H locs ls hM1 hM2 hX9 hS hl
    obtain ⟨z1, z2, o1, o2, o3, o4⟩ := ho n S1 d1 S2 d2 (by omega) hR
    refine lv_iload_n hx hb dL_law_18 rfl (lv_at hl 3 rfl) ?_
    refine lv_aload_n hx hb dL_law_19 rfl (lv_at hl 0 rfl) ?_
    refine va_slen hx hb hX hbl (Nat.not_le.mpr hbl) hS dL_law_20 ?_
    refine lv_bipush (v := 6) hx hb dL_law_21 (by decide) ?_
    refine lv_isub hx hb dL_law_23 ?_
    refine lv_icmp_gt (tgt := 1840) hx hb dL_law_24 (by decide) (fun hgt => ?_) (fun hle => ?_)
    · refine lv_iconst (v := 1) hx hb dL_law_1840 (by decide) ?_
      refine va_forget (fun q hq => hS.2.2 q hq) ?_
      refine W.widen (k := 1136687) (n := 5675420) o3 o4 ?_
      exact lw_ret hx hb hr hlk dL_law_1841
    · have := lw_fit L (by omega) n (by omega) hle
      omega
  | succ f ih =>
    intro n hn S1 d1 S2 d2 hR ρ1 ρ2 H locs ls hM1 hM2 hX9 hS hl
    obtain ⟨z1, z2, o1, o2, o3, o4⟩ := ho n S1 d1 S2 d2 (by omega) hR
    refine lv_iload_n hx hb dL_law_18 rfl (lv_at hl 3 rfl) ?_
    refine lv_aload_n hx hb dL_law_19 rfl (lv_at hl 0 rfl) ?_
    refine va_slen hx hb hX hbl (Nat.not_le.mpr hbl) hS dL_law_20 ?_
    refine lv_bipush (v := 6) hx hb dL_law_21 (by decide) ?_
    refine lv_isub hx hb dL_law_23 ?_
    refine lv_icmp_gt (tgt := 1840) hx hb dL_law_24 (by decide) (fun hgt => ?_) (fun hle => ?_)
    · refine lv_iconst (v := 1) hx hb dL_law_1840 (by decide) ?_
      refine va_forget (fun q hq => hS.2.2 q hq) ?_
      refine W.widen (k := 1136687) (n := 5675420) o3 o4 ?_
      exact lw_ret hx hb hr hlk dL_law_1841
    have hfit := lw_fit L (by omega) n (by omega) hle
    have n0 : vp_in (nI (6 * n)) L := nI_in (by omega) (by omega)
    have n1 : vp_in (nI (6 * n) + 1) L := by rw [show (1 : Int32) = nI 1 from rfl, nI_add]; exact nI_in (by omega) (by omega)
    have n2 : vp_in (nI (6 * n) + 2) L := by rw [show (2 : Int32) = nI 2 from rfl, nI_add]; exact nI_in (by omega) (by omega)
    have n3 : vp_in (nI (6 * n) + 3) L := by rw [show (3 : Int32) = nI 3 from rfl, nI_add]; exact nI_in (by omega) (by omega)
    have n4 : vp_in (nI (6 * n) + 4) L := by rw [show (4 : Int32) = nI 4 from rfl, nI_add]; exact nI_in (by omega) (by omega)
    have n5 : vp_in (nI (6 * n) + 5) L := by rw [show (5 : Int32) = nI 5 from rfl, nI_add]; exact nI_in (by omega) (by omega)
    have hnext : ∀ S1 d1 S2 d2, Rel (n + 1) S1 d1 S2 d2 → LW p l e s m below meth c (lw_Z below #[Value.ref b] s) dC dI dA oa b S1 d1 S2 d2 (nI (6 * n)) 1834 := by
      intro S1 d1 S2 d2 hR ρ1 ρ2 H locs ls hM1 hM2 hX9 hS hl
      refine lv_iinc (k := 3) (v := nI (6 * (n + 1))) (lv' := [(3, .int (nI (6 * (n + 1)))), (0, .ref b), (1, .ref (ρ1 0)), (2, .ref (ρ2 0))]) hx hb dL_law_1834 hl rfl (by rw [show Int32.ofInt 6 = nI 6 from rfl, nI_add]; rfl) (by decide) rfl (fun ls hl => ?_)
      refine lv_goto (tgt := 18) hx hb dL_law_1837 (by decide) ?_
      exact ih (n + 1) (by omega) _ _ _ _ hR ρ1 ρ2 H locs ls hM1 hM2 hX9 hS ⟨hl.1, hl.2.1, fun q hq => hl.2.2 q (by simp only [List.mem_cons, List.not_mem_nil, or_false] at hq ⊢; rcases hq with h | h | h | h <;> simp [h])⟩
    refine lv_aload_n hx hb dL_law_27 rfl (lv_at hl 0 rfl) ?_
    refine lv_iload_n hx hb dL_law_28 rfl (lv_at hl 3 rfl) ?_
    refine va_sld hx hb hX hbl (Nat.not_le.mpr hbl) hS n0 dL_law_29 ?_
    refine lv_bipush (v := 63) hx hb dL_law_30 (by decide) ?_
    refine lv_iand hx hb dL_law_32 ?_
    generalize xs (nI (6 * n)).toNatClampNeg &&& 63 = x
    by_cases c0 : x = nI 0
    · refine lw_tsIn (k := 0) (tgt := 268) hx hb dL_law_33 c0 (by decide) (by decide) rfl (by decide) ?_
      obtain ⟨a, T1, b1, b2, g1, g2, hR2⟩ := h0 n S1 d1 S2 d2 (xs (nI (6 * n) + 1).toNatClampNeg) (xs (nI (6 * n) + 2).toNatClampNeg) (xs (nI (6 * n) + 3).toNatClampNeg) (xs (nI (6 * n) + 4).toNatClampNeg) (xs (nI (6 * n) + 5).toNatClampNeg) (by omega) hR
      obtain ⟨-, -, y1, y2, y3, y4⟩ := ho (n + 1) _ _ _ _ (by omega) hR2
      exact lc_0 hfl C1 hB n1 n2 n3 n4 n5 z1 z2 g1 g2 y1 y3 y4 y2 y3 y4 (hnext _ _ _ _ hR2) ρ1 ρ2 H locs ls hM1 hM2 hX9 hS hl
    by_cases c1 : x = nI 1
    · refine lw_tsIn (k := 1) (tgt := 331) hx hb dL_law_33 c1 (by decide) (by decide) rfl (by decide) ?_
      obtain ⟨a, b1, b2, g1, g2, hR2⟩ := h1 n S1 d1 S2 d2 (xs (nI (6 * n) + 1).toNatClampNeg) (by omega) hR
      obtain ⟨-, -, y1, y2, y3, y4⟩ := ho (n + 1) _ _ _ _ (by omega) hR2
      exact lc_1 hfl C1 hB n1 z1 z2 g1 g2 y1 y3 y4 y2 y3 y4 (hnext _ _ _ _ hR2) ρ1 ρ2 H locs ls hM1 hM2 hX9 hS hl
    by_cases c2 : x = nI 2
    · refine lw_tsIn (k := 2) (tgt := 354) hx hb dL_law_33 c2 (by decide) (by decide) rfl (by decide) ?_
      obtain ⟨a, T1, b1, b2, g1, g2, hR2⟩ := h2 n S1 d1 S2 d2  (by omega) hR
      obtain ⟨-, -, y1, y2, y3, y4⟩ := ho (n + 1) _ _ _ _ (by omega) hR2
      exact lc_2 hfl C1 hB  z1 z2 g1 g2 y1 y3 y4 y2 y3 y4 (hnext _ _ _ _ hR2) ρ1 ρ2 H locs ls hM1 hM2 hX9 hS hl
    by_cases c3 : x = nI 3
    · refine lw_tsIn (k := 3) (tgt := 367) hx hb dL_law_33 c3 (by decide) (by decide) rfl (by decide) ?_
      obtain ⟨a, g1, g2, hR2⟩ := h3 n S1 d1 S2 d2 (xs (nI (6 * n) + 1).toNatClampNeg) (by omega) hR
      obtain ⟨-, -, y1, y2, y3, y4⟩ := ho (n + 1) _ _ _ _ (by omega) hR2
      exact lc_3 hfl C1 hB n1 z1 z2 g1 g2 y1 y3 y4 y2 y3 y4 (hnext _ _ _ _ hR2) ρ1 ρ2 H locs ls hM1 hM2 hX9 hS hl
    by_cases c4 : x = nI 4
    · refine lw_tsIn (k := 4) (tgt := 390) hx hb dL_law_33 c4 (by decide) (by decide) rfl (by decide) ?_
      obtain ⟨a, g1, g2, hR2⟩ := h4 n S1 d1 S2 d2 (xs (nI (6 * n) + 1).toNatClampNeg) (xs (nI (6 * n) + 2).toNatClampNeg) (by omega) hR
      obtain ⟨-, -, y1, y2, y3, y4⟩ := ho (n + 1) _ _ _ _ (by omega) hR2
      exact lc_4 hfl C1 hB n1 n2 z1 z2 g1 g2 y1 y3 y4 y2 y3 y4 (hnext _ _ _ _ hR2) ρ1 ρ2 H locs ls hM1 hM2 hX9 hS hl
    by_cases c5 : x = nI 5
    · refine lw_tsIn (k := 5) (tgt := 423) hx hb dL_law_33 c5 (by decide) (by decide) rfl (by decide) ?_
      obtain ⟨a, g1, g2, hR2⟩ := h5 n S1 d1 S2 d2 (xs (nI (6 * n) + 1).toNatClampNeg) (xs (nI (6 * n) + 2).toNatClampNeg) (xs (nI (6 * n) + 3).toNatClampNeg) (by omega) hR
      obtain ⟨-, -, y1, y2, y3, y4⟩ := ho (n + 1) _ _ _ _ (by omega) hR2
      exact lc_5 hfl C1 hB n1 n2 n3 z1 z2 g1 g2 y1 y3 y4 y2 y3 y4 (hnext _ _ _ _ hR2) ρ1 ρ2 H locs ls hM1 hM2 hX9 hS hl
    by_cases c6 : x = nI 6
    · refine lw_tsIn (k := 6) (tgt := 466) hx hb dL_law_33 c6 (by decide) (by decide) rfl (by decide) ?_
      obtain ⟨a, g1, g2, hR2⟩ := h6 n S1 d1 S2 d2 (xs (nI (6 * n) + 1).toNatClampNeg) (by omega) hR
      obtain ⟨-, -, y1, y2, y3, y4⟩ := ho (n + 1) _ _ _ _ (by omega) hR2
      exact lc_6 hfl C1 hB n1 z1 z2 g1 g2 y1 y3 y4 y2 y3 y4 (hnext _ _ _ _ hR2) ρ1 ρ2 H locs ls hM1 hM2 hX9 hS hl
    by_cases c7 : x = nI 7
    · refine lw_tsIn (k := 7) (tgt := 489) hx hb dL_law_33 c7 (by decide) (by decide) rfl (by decide) ?_
      obtain ⟨a, g1, g2, hR2⟩ := h7 n S1 d1 S2 d2 (xs (nI (6 * n) + 1).toNatClampNeg) (xs (nI (6 * n) + 2).toNatClampNeg) (by omega) hR
      obtain ⟨-, -, y1, y2, y3, y4⟩ := ho (n + 1) _ _ _ _ (by omega) hR2
      exact lc_7 hfl C1 hB n1 n2 z1 z2 g1 g2 y1 y3 y4 y2 y3 y4 (hnext _ _ _ _ hR2) ρ1 ρ2 H locs ls hM1 hM2 hX9 hS hl
    by_cases c8 : x = nI 8
    · refine lw_tsIn (k := 8) (tgt := 522) hx hb dL_law_33 c8 (by decide) (by decide) rfl (by decide) ?_
      obtain ⟨a, b2, g1, g2, hR2⟩ := h8 n S1 d1 S2 d2 (xs (nI (6 * n) + 1).toNatClampNeg) (xs (nI (6 * n) + 2).toNatClampNeg) (by omega) hR
      obtain ⟨-, -, y1, y2, y3, y4⟩ := ho (n + 1) _ _ _ _ (by omega) hR2
      exact lc_8 hfl C1 hB n1 n2 z1 z2 g1 g2 y1 y3 y4 y2 y3 y4 (hnext _ _ _ _ hR2) ρ1 ρ2 H locs ls hM1 hM2 hX9 hS hl
    by_cases c9 : x = nI 9
    · refine lw_tsIn (k := 9) (tgt := 555) hx hb dL_law_33 c9 (by decide) (by decide) rfl (by decide) ?_
      obtain ⟨a, b2, g1, g2, hR2⟩ := h9 n S1 d1 S2 d2 (xs (nI (6 * n) + 1).toNatClampNeg) (by omega) hR
      obtain ⟨-, -, y1, y2, y3, y4⟩ := ho (n + 1) _ _ _ _ (by omega) hR2
      exact lc_9 hfl C1 hB n1 z1 z2 g1 g2 y1 y3 y4 y2 y3 y4 (hnext _ _ _ _ hR2) ρ1 ρ2 H locs ls hM1 hM2 hX9 hS hl
    by_cases c10 : x = nI 10
    · refine lw_tsIn (k := 10) (tgt := 578) hx hb dL_law_33 c10 (by decide) (by decide) rfl (by decide) ?_
      obtain ⟨a, b2, g1, g2, hR2⟩ := h10 n S1 d1 S2 d2 (xs (nI (6 * n) + 1).toNatClampNeg) (by omega) hR
      obtain ⟨-, -, y1, y2, y3, y4⟩ := ho (n + 1) _ _ _ _ (by omega) hR2
      exact lc_10 hfl C1 hB n1 z1 z2 g1 g2 y1 y3 y4 y2 y3 y4 (hnext _ _ _ _ hR2) ρ1 ρ2 H locs ls hM1 hM2 hX9 hS hl
    by_cases c11 : x = nI 11
    · refine lw_tsIn (k := 11) (tgt := 601) hx hb dL_law_33 c11 (by decide) (by decide) rfl (by decide) ?_
      obtain ⟨a, b2, g1, g2, hR2⟩ := h11 n S1 d1 S2 d2 (xs (nI (6 * n) + 1).toNatClampNeg) (xs (nI (6 * n) + 2).toNatClampNeg) (by omega) hR
      obtain ⟨-, -, y1, y2, y3, y4⟩ := ho (n + 1) _ _ _ _ (by omega) hR2
      exact lc_11 hfl C1 hB n1 n2 z1 z2 g1 g2 y1 y3 y4 y2 y3 y4 (hnext _ _ _ _ hR2) ρ1 ρ2 H locs ls hM1 hM2 hX9 hS hl
    by_cases c12 : x = nI 12
    · refine lw_tsIn (k := 12) (tgt := 634) hx hb dL_law_33 c12 (by decide) (by decide) rfl (by decide) ?_
      obtain ⟨a, b1, b2, g1, g2, hR2⟩ := h12 n S1 d1 S2 d2 (xs (nI (6 * n) + 1).toNatClampNeg) (by omega) hR
      obtain ⟨-, -, y1, y2, y3, y4⟩ := ho (n + 1) _ _ _ _ (by omega) hR2
      exact lc_12 hfl C1 hB n1 z1 z2 g1 g2 y1 y3 y4 y2 y3 y4 (hnext _ _ _ _ hR2) ρ1 ρ2 H locs ls hM1 hM2 hX9 hS hl
    by_cases c13 : x = nI 13
    · refine lw_tsIn (k := 13) (tgt := 657) hx hb dL_law_33 c13 (by decide) (by decide) rfl (by decide) ?_
      obtain ⟨a, b1, b2, g1, g2, hR2⟩ := h13 n S1 d1 S2 d2  (by omega) hR
      obtain ⟨-, -, y1, y2, y3, y4⟩ := ho (n + 1) _ _ _ _ (by omega) hR2
      exact lc_13 hfl C1 hB  z1 z2 g1 g2 y1 y3 y4 y2 y3 y4 (hnext _ _ _ _ hR2) ρ1 ρ2 H locs ls hM1 hM2 hX9 hS hl
    by_cases c14 : x = nI 14
    · refine lw_tsIn (k := 14) (tgt := 670) hx hb dL_law_33 c14 (by decide) (by decide) rfl (by decide) ?_
      obtain ⟨a, b1, b2, g1, g2, hR2⟩ := h14 n S1 d1 S2 d2 (xs (nI (6 * n) + 1).toNatClampNeg) (by omega) hR
      obtain ⟨-, -, y1, y2, y3, y4⟩ := ho (n + 1) _ _ _ _ (by omega) hR2
      exact lc_14 hfl C1 hB n1 z1 z2 g1 g2 y1 y3 y4 y2 y3 y4 (hnext _ _ _ _ hR2) ρ1 ρ2 H locs ls hM1 hM2 hX9 hS hl
    by_cases c15 : x = nI 15
    · refine lw_tsIn (k := 15) (tgt := 693) hx hb dL_law_33 c15 (by decide) (by decide) rfl (by decide) ?_
      obtain ⟨a, g1, g2, hR2⟩ := h15 n S1 d1 S2 d2 (xs (nI (6 * n) + 1).toNatClampNeg) (xs (nI (6 * n) + 2).toNatClampNeg) (xs (nI (6 * n) + 3).toNatClampNeg) (by omega) hR
      obtain ⟨-, -, y1, y2, y3, y4⟩ := ho (n + 1) _ _ _ _ (by omega) hR2
      exact lc_15 hfl C1 hB n1 n2 n3 z1 z2 g1 g2 y1 y3 y4 y2 y3 y4 (hnext _ _ _ _ hR2) ρ1 ρ2 H locs ls hM1 hM2 hX9 hS hl
    by_cases c16 : x = nI 16
    · refine lw_tsIn (k := 16) (tgt := 736) hx hb dL_law_33 c16 (by decide) (by decide) rfl (by decide) ?_
      obtain ⟨a, g1, g2, hR2⟩ := h16 n S1 d1 S2 d2 (xs (nI (6 * n) + 1).toNatClampNeg) (xs (nI (6 * n) + 2).toNatClampNeg) (xs (nI (6 * n) + 3).toNatClampNeg) (by omega) hR
      obtain ⟨-, -, y1, y2, y3, y4⟩ := ho (n + 1) _ _ _ _ (by omega) hR2
      exact lc_16 hfl C1 hB n1 n2 n3 z1 z2 g1 g2 y1 y3 y4 y2 y3 y4 (hnext _ _ _ _ hR2) ρ1 ρ2 H locs ls hM1 hM2 hX9 hS hl
    by_cases c17 : x = nI 17
    · refine lw_tsIn (k := 17) (tgt := 779) hx hb dL_law_33 c17 (by decide) (by decide) rfl (by decide) ?_
      obtain ⟨a, b1, b2, g1, g2, hR2⟩ := h17 n S1 d1 S2 d2 (xs (nI (6 * n) + 1).toNatClampNeg) (xs (nI (6 * n) + 2).toNatClampNeg) (by omega) hR
      obtain ⟨-, -, y1, y2, y3, y4⟩ := ho (n + 1) _ _ _ _ (by omega) hR2
      exact lc_17 hfl C1 hB n1 n2 z1 z2 g1 g2 y1 y3 y4 y2 y3 y4 (hnext _ _ _ _ hR2) ρ1 ρ2 H locs ls hM1 hM2 hX9 hS hl
    by_cases c18 : x = nI 18
    · refine lw_tsIn (k := 18) (tgt := 812) hx hb dL_law_33 c18 (by decide) (by decide) rfl (by decide) ?_
      obtain ⟨a, b2, g1, g2, hR2⟩ := h18 n S1 d1 S2 d2  (by omega) hR
      obtain ⟨-, -, y1, y2, y3, y4⟩ := ho (n + 1) _ _ _ _ (by omega) hR2
      exact lc_18 hfl C1 hB  z1 z2 g1 g2 y1 y3 y4 y2 y3 y4 (hnext _ _ _ _ hR2) ρ1 ρ2 H locs ls hM1 hM2 hX9 hS hl
    by_cases c19 : x = nI 19
    · refine lw_tsIn (k := 19) (tgt := 825) hx hb dL_law_33 c19 (by decide) (by decide) rfl (by decide) ?_
      obtain ⟨a, b2, g1, g2, hR2⟩ := h19 n S1 d1 S2 d2  (by omega) hR
      obtain ⟨-, -, y1, y2, y3, y4⟩ := ho (n + 1) _ _ _ _ (by omega) hR2
      exact lc_19 hfl C1 hB  z1 z2 g1 g2 y1 y3 y4 y2 y3 y4 (hnext _ _ _ _ hR2) ρ1 ρ2 H locs ls hM1 hM2 hX9 hS hl
    by_cases c20 : x = nI 20
    · refine lw_tsIn (k := 20) (tgt := 838) hx hb dL_law_33 c20 (by decide) (by decide) rfl (by decide) ?_
      obtain ⟨a, T1, b1, b2, g1, g2, hR2⟩ := h20 n S1 d1 S2 d2 (xs (nI (6 * n) + 1).toNatClampNeg) (by omega) hR
      obtain ⟨-, -, y1, y2, y3, y4⟩ := ho (n + 1) _ _ _ _ (by omega) hR2
      exact lc_20 hfl C1 hB n1 z1 z2 g1 g2 y1 y3 y4 y2 y3 y4 (hnext _ _ _ _ hR2) ρ1 ρ2 H locs ls hM1 hM2 hX9 hS hl
    by_cases c21 : x = nI 21
    · refine lw_tsIn (k := 21) (tgt := 861) hx hb dL_law_33 c21 (by decide) (by decide) rfl (by decide) ?_
      obtain ⟨a, T1, b1, b2, g1, g2, hR2⟩ := h21 n S1 d1 S2 d2 (xs (nI (6 * n) + 1).toNatClampNeg) (by omega) hR
      obtain ⟨-, -, y1, y2, y3, y4⟩ := ho (n + 1) _ _ _ _ (by omega) hR2
      exact lc_21 hfl C1 hB n1 z1 z2 g1 g2 y1 y3 y4 y2 y3 y4 (hnext _ _ _ _ hR2) ρ1 ρ2 H locs ls hM1 hM2 hX9 hS hl
    by_cases c22 : x = nI 22
    · refine lw_tsIn (k := 22) (tgt := 884) hx hb dL_law_33 c22 (by decide) (by decide) rfl (by decide) ?_
      obtain ⟨a, T1, b1, b2, g1, g2, hR2⟩ := h22 n S1 d1 S2 d2 (xs (nI (6 * n) + 1).toNatClampNeg) (xs (nI (6 * n) + 2).toNatClampNeg) (by omega) hR
      obtain ⟨-, -, y1, y2, y3, y4⟩ := ho (n + 1) _ _ _ _ (by omega) hR2
      exact lc_22 hfl C1 hB n1 n2 z1 z2 g1 g2 y1 y3 y4 y2 y3 y4 (hnext _ _ _ _ hR2) ρ1 ρ2 H locs ls hM1 hM2 hX9 hS hl
    by_cases c23 : x = nI 23
    · refine lw_tsIn (k := 23) (tgt := 917) hx hb dL_law_33 c23 (by decide) (by decide) rfl (by decide) ?_
      obtain ⟨a, T1, b1, b2, g1, g2, hR2⟩ := h23 n S1 d1 S2 d2 (xs (nI (6 * n) + 1).toNatClampNeg) (xs (nI (6 * n) + 2).toNatClampNeg) (by omega) hR
      obtain ⟨-, -, y1, y2, y3, y4⟩ := ho (n + 1) _ _ _ _ (by omega) hR2
      exact lc_23 hfl C1 hB n1 n2 z1 z2 g1 g2 y1 y3 y4 y2 y3 y4 (hnext _ _ _ _ hR2) ρ1 ρ2 H locs ls hM1 hM2 hX9 hS hl
    by_cases c24 : x = nI 24
    · refine lw_tsIn (k := 24) (tgt := 950) hx hb dL_law_33 c24 (by decide) (by decide) rfl (by decide) ?_
      obtain ⟨a, T1, b1, b2, g1, g2, hR2⟩ := h24 n S1 d1 S2 d2 (xs (nI (6 * n) + 1).toNatClampNeg) (xs (nI (6 * n) + 2).toNatClampNeg) (by omega) hR
      obtain ⟨-, -, y1, y2, y3, y4⟩ := ho (n + 1) _ _ _ _ (by omega) hR2
      exact lc_24 hfl C1 hB n1 n2 z1 z2 g1 g2 y1 y3 y4 y2 y3 y4 (hnext _ _ _ _ hR2) ρ1 ρ2 H locs ls hM1 hM2 hX9 hS hl
    by_cases c25 : x = nI 25
    · refine lw_tsIn (k := 25) (tgt := 983) hx hb dL_law_33 c25 (by decide) (by decide) rfl (by decide) ?_
      obtain ⟨a, T1, b1, b2, g1, g2, hR2⟩ := h25 n S1 d1 S2 d2 (xs (nI (6 * n) + 1).toNatClampNeg) (xs (nI (6 * n) + 2).toNatClampNeg) (by omega) hR
      obtain ⟨-, -, y1, y2, y3, y4⟩ := ho (n + 1) _ _ _ _ (by omega) hR2
      exact lc_25 hfl C1 hB n1 n2 z1 z2 g1 g2 y1 y3 y4 y2 y3 y4 (hnext _ _ _ _ hR2) ρ1 ρ2 H locs ls hM1 hM2 hX9 hS hl
    by_cases c26 : x = nI 26
    · refine lw_tsIn (k := 26) (tgt := 1016) hx hb dL_law_33 c26 (by decide) (by decide) rfl (by decide) ?_
      obtain ⟨a, T1, b1, b2, g1, g2, hR2⟩ := h26 n S1 d1 S2 d2 (xs (nI (6 * n) + 1).toNatClampNeg) (xs (nI (6 * n) + 2).toNatClampNeg) (by omega) hR
      obtain ⟨-, -, y1, y2, y3, y4⟩ := ho (n + 1) _ _ _ _ (by omega) hR2
      exact lc_26 hfl C1 hB n1 n2 z1 z2 g1 g2 y1 y3 y4 y2 y3 y4 (hnext _ _ _ _ hR2) ρ1 ρ2 H locs ls hM1 hM2 hX9 hS hl
    by_cases c27 : x = nI 27
    · refine lw_tsIn (k := 27) (tgt := 1049) hx hb dL_law_33 c27 (by decide) (by decide) rfl (by decide) ?_
      obtain ⟨a, T1, b1, b2, g1, g2, hR2⟩ := h27 n S1 d1 S2 d2 (xs (nI (6 * n) + 1).toNatClampNeg) (xs (nI (6 * n) + 2).toNatClampNeg) (by omega) hR
      obtain ⟨-, -, y1, y2, y3, y4⟩ := ho (n + 1) _ _ _ _ (by omega) hR2
      exact lc_27 hfl C1 hB n1 n2 z1 z2 g1 g2 y1 y3 y4 y2 y3 y4 (hnext _ _ _ _ hR2) ρ1 ρ2 H locs ls hM1 hM2 hX9 hS hl
    by_cases c28 : x = nI 28
    · refine lw_tsIn (k := 28) (tgt := 1082) hx hb dL_law_33 c28 (by decide) (by decide) rfl (by decide) ?_
      obtain ⟨a, T1, b1, b2, g1, g2, hR2⟩ := h28 n S1 d1 S2 d2 (xs (nI (6 * n) + 1).toNatClampNeg) (xs (nI (6 * n) + 2).toNatClampNeg) (by omega) hR
      obtain ⟨-, -, y1, y2, y3, y4⟩ := ho (n + 1) _ _ _ _ (by omega) hR2
      exact lc_28 hfl C1 hB n1 n2 z1 z2 g1 g2 y1 y3 y4 y2 y3 y4 (hnext _ _ _ _ hR2) ρ1 ρ2 H locs ls hM1 hM2 hX9 hS hl
    by_cases c29 : x = nI 29
    · refine lw_tsIn (k := 29) (tgt := 1115) hx hb dL_law_33 c29 (by decide) (by decide) rfl (by decide) ?_
      obtain ⟨a, T1, b1, b2, g1, g2, hR2⟩ := h29 n S1 d1 S2 d2 (xs (nI (6 * n) + 1).toNatClampNeg) (xs (nI (6 * n) + 2).toNatClampNeg) (by omega) hR
      obtain ⟨-, -, y1, y2, y3, y4⟩ := ho (n + 1) _ _ _ _ (by omega) hR2
      exact lc_29 hfl C1 hB n1 n2 z1 z2 g1 g2 y1 y3 y4 y2 y3 y4 (hnext _ _ _ _ hR2) ρ1 ρ2 H locs ls hM1 hM2 hX9 hS hl
    by_cases c30 : x = nI 30
    · refine lw_tsIn (k := 30) (tgt := 1148) hx hb dL_law_33 c30 (by decide) (by decide) rfl (by decide) ?_
      obtain ⟨a, T1, b1, b2, g1, g2, hR2⟩ := h30 n S1 d1 S2 d2 (xs (nI (6 * n) + 1).toNatClampNeg) (xs (nI (6 * n) + 2).toNatClampNeg) (by omega) hR
      obtain ⟨-, -, y1, y2, y3, y4⟩ := ho (n + 1) _ _ _ _ (by omega) hR2
      exact lc_30 hfl C1 hB n1 n2 z1 z2 g1 g2 y1 y3 y4 y2 y3 y4 (hnext _ _ _ _ hR2) ρ1 ρ2 H locs ls hM1 hM2 hX9 hS hl
    by_cases c31 : x = nI 31
    · refine lw_tsIn (k := 31) (tgt := 1181) hx hb dL_law_33 c31 (by decide) (by decide) rfl (by decide) ?_
      obtain ⟨a, T1, b1, b2, g1, g2, hR2⟩ := h31 n S1 d1 S2 d2 (xs (nI (6 * n) + 1).toNatClampNeg) (xs (nI (6 * n) + 2).toNatClampNeg) (by omega) hR
      obtain ⟨-, -, y1, y2, y3, y4⟩ := ho (n + 1) _ _ _ _ (by omega) hR2
      exact lc_31 hfl C1 hB n1 n2 z1 z2 g1 g2 y1 y3 y4 y2 y3 y4 (hnext _ _ _ _ hR2) ρ1 ρ2 H locs ls hM1 hM2 hX9 hS hl
    by_cases c32 : x = nI 32
    · refine lw_tsIn (k := 32) (tgt := 1214) hx hb dL_law_33 c32 (by decide) (by decide) rfl (by decide) ?_
      obtain ⟨a, T1, b1, b2, g1, g2, hR2⟩ := h32 n S1 d1 S2 d2 (xs (nI (6 * n) + 1).toNatClampNeg) (xs (nI (6 * n) + 2).toNatClampNeg) (by omega) hR
      obtain ⟨-, -, y1, y2, y3, y4⟩ := ho (n + 1) _ _ _ _ (by omega) hR2
      exact lc_32 hfl C1 hB n1 n2 z1 z2 g1 g2 y1 y3 y4 y2 y3 y4 (hnext _ _ _ _ hR2) ρ1 ρ2 H locs ls hM1 hM2 hX9 hS hl
    by_cases c33 : x = nI 33
    · refine lw_tsIn (k := 33) (tgt := 1247) hx hb dL_law_33 c33 (by decide) (by decide) rfl (by decide) ?_
      obtain ⟨a, T1, b1, b2, g1, g2, hR2⟩ := h33 n S1 d1 S2 d2 (xs (nI (6 * n) + 1).toNatClampNeg) (xs (nI (6 * n) + 2).toNatClampNeg) (by omega) hR
      obtain ⟨-, -, y1, y2, y3, y4⟩ := ho (n + 1) _ _ _ _ (by omega) hR2
      exact lc_33 hfl C1 hB n1 n2 z1 z2 g1 g2 y1 y3 y4 y2 y3 y4 (hnext _ _ _ _ hR2) ρ1 ρ2 H locs ls hM1 hM2 hX9 hS hl
    by_cases c34 : x = nI 34
    · refine lw_tsIn (k := 34) (tgt := 1281) hx hb dL_law_33 c34 (by decide) (by decide) rfl (by decide) ?_
      obtain ⟨a, T1, b1, b2, g1, g2, hR2⟩ := h34 n S1 d1 S2 d2 (xs (nI (6 * n) + 1).toNatClampNeg) (by omega) hR
      obtain ⟨-, -, y1, y2, y3, y4⟩ := ho (n + 1) _ _ _ _ (by omega) hR2
      exact lc_34 hfl C1 hB n1 z1 z2 g1 g2 y1 y3 y4 y2 y3 y4 (hnext _ _ _ _ hR2) ρ1 ρ2 H locs ls hM1 hM2 hX9 hS hl
    by_cases c35 : x = nI 35
    · refine lw_tsIn (k := 35) (tgt := 1304) hx hb dL_law_33 c35 (by decide) (by decide) rfl (by decide) ?_
      obtain ⟨a, T1, b1, b2, g1, g2, hR2⟩ := h35 n S1 d1 S2 d2 (xs (nI (6 * n) + 1).toNatClampNeg) (xs (nI (6 * n) + 2).toNatClampNeg) (by omega) hR
      obtain ⟨-, -, y1, y2, y3, y4⟩ := ho (n + 1) _ _ _ _ (by omega) hR2
      exact lc_35 hfl C1 hB n1 n2 z1 z2 g1 g2 y1 y3 y4 y2 y3 y4 (hnext _ _ _ _ hR2) ρ1 ρ2 H locs ls hM1 hM2 hX9 hS hl
    by_cases c36 : x = nI 36
    · refine lw_tsIn (k := 36) (tgt := 1337) hx hb dL_law_33 c36 (by decide) (by decide) rfl (by decide) ?_
      obtain ⟨a, T1, b1, b2, g1, g2, hR2⟩ := h36 n S1 d1 S2 d2 (xs (nI (6 * n) + 1).toNatClampNeg) (by omega) hR
      obtain ⟨-, -, y1, y2, y3, y4⟩ := ho (n + 1) _ _ _ _ (by omega) hR2
      exact lc_36 hfl C1 hB n1 z1 z2 g1 g2 y1 y3 y4 y2 y3 y4 (hnext _ _ _ _ hR2) ρ1 ρ2 H locs ls hM1 hM2 hX9 hS hl
    by_cases c37 : x = nI 37
    · refine lw_tsIn (k := 37) (tgt := 1360) hx hb dL_law_33 c37 (by decide) (by decide) rfl (by decide) ?_
      obtain ⟨a, T1, b1, b2, g1, g2, hR2⟩ := h37 n S1 d1 S2 d2 (xs (nI (6 * n) + 1).toNatClampNeg) (by omega) hR
      obtain ⟨-, -, y1, y2, y3, y4⟩ := ho (n + 1) _ _ _ _ (by omega) hR2
      exact lc_37 hfl C1 hB n1 z1 z2 g1 g2 y1 y3 y4 y2 y3 y4 (hnext _ _ _ _ hR2) ρ1 ρ2 H locs ls hM1 hM2 hX9 hS hl
    by_cases c38 : x = nI 38
    · refine lw_tsIn (k := 38) (tgt := 1383) hx hb dL_law_33 c38 (by decide) (by decide) rfl (by decide) ?_
      obtain ⟨a, T1, b1, b2, g1, g2, hR2⟩ := h38 n S1 d1 S2 d2 (xs (nI (6 * n) + 1).toNatClampNeg) (xs (nI (6 * n) + 2).toNatClampNeg) (by omega) hR
      obtain ⟨-, -, y1, y2, y3, y4⟩ := ho (n + 1) _ _ _ _ (by omega) hR2
      exact lc_38 hfl C1 hB n1 n2 z1 z2 g1 g2 y1 y3 y4 y2 y3 y4 (hnext _ _ _ _ hR2) ρ1 ρ2 H locs ls hM1 hM2 hX9 hS hl
    by_cases c39 : x = nI 39
    · refine lw_tsIn (k := 39) (tgt := 1416) hx hb dL_law_33 c39 (by decide) (by decide) rfl (by decide) ?_
      obtain ⟨a, T1, b1, b2, g1, g2, hR2⟩ := h39 n S1 d1 S2 d2  (by omega) hR
      obtain ⟨-, -, y1, y2, y3, y4⟩ := ho (n + 1) _ _ _ _ (by omega) hR2
      exact lc_39 hfl C1 hB  z1 z2 g1 g2 y1 y3 y4 y2 y3 y4 (hnext _ _ _ _ hR2) ρ1 ρ2 H locs ls hM1 hM2 hX9 hS hl
    by_cases c40 : x = nI 40
    · refine lw_tsIn (k := 40) (tgt := 1429) hx hb dL_law_33 c40 (by decide) (by decide) rfl (by decide) ?_
      obtain ⟨a, T1, b1, b2, g1, g2, hR2⟩ := h40 n S1 d1 S2 d2 (xs (nI (6 * n) + 1).toNatClampNeg) (xs (nI (6 * n) + 2).toNatClampNeg) (by omega) hR
      obtain ⟨-, -, y1, y2, y3, y4⟩ := ho (n + 1) _ _ _ _ (by omega) hR2
      exact lc_40 hfl C1 hB n1 n2 z1 z2 g1 g2 y1 y3 y4 y2 y3 y4 (hnext _ _ _ _ hR2) ρ1 ρ2 H locs ls hM1 hM2 hX9 hS hl
    by_cases c41 : x = nI 41
    · refine lw_tsIn (k := 41) (tgt := 1462) hx hb dL_law_33 c41 (by decide) (by decide) rfl (by decide) ?_
      obtain ⟨a, T1, b1, b2, g1, g2, hR2⟩ := h41 n S1 d1 S2 d2 (xs (nI (6 * n) + 1).toNatClampNeg) (by omega) hR
      obtain ⟨-, -, y1, y2, y3, y4⟩ := ho (n + 1) _ _ _ _ (by omega) hR2
      exact lc_41 hfl C1 hB n1 z1 z2 g1 g2 y1 y3 y4 y2 y3 y4 (hnext _ _ _ _ hR2) ρ1 ρ2 H locs ls hM1 hM2 hX9 hS hl
    by_cases c42 : x = nI 42
    · refine lw_tsIn (k := 42) (tgt := 1485) hx hb dL_law_33 c42 (by decide) (by decide) rfl (by decide) ?_
      obtain ⟨a, T1, b1, b2, g1, g2, hR2⟩ := h42 n S1 d1 S2 d2 (xs (nI (6 * n) + 1).toNatClampNeg) (by omega) hR
      obtain ⟨-, -, y1, y2, y3, y4⟩ := ho (n + 1) _ _ _ _ (by omega) hR2
      exact lc_42 hfl C1 hB n1 z1 z2 g1 g2 y1 y3 y4 y2 y3 y4 (hnext _ _ _ _ hR2) ρ1 ρ2 H locs ls hM1 hM2 hX9 hS hl
    by_cases c43 : x = nI 43
    · refine lw_tsIn (k := 43) (tgt := 1508) hx hb dL_law_33 c43 (by decide) (by decide) rfl (by decide) ?_
      obtain ⟨a, T1, b1, b2, g1, g2, hR2⟩ := h43 n S1 d1 S2 d2  (by omega) hR
      obtain ⟨-, -, y1, y2, y3, y4⟩ := ho (n + 1) _ _ _ _ (by omega) hR2
      exact lc_43 hfl C1 hB  z1 z2 g1 g2 y1 y3 y4 y2 y3 y4 (hnext _ _ _ _ hR2) ρ1 ρ2 H locs ls hM1 hM2 hX9 hS hl
    by_cases c44 : x = nI 44
    · refine lw_tsIn (k := 44) (tgt := 1521) hx hb dL_law_33 c44 (by decide) (by decide) rfl (by decide) ?_
      obtain ⟨a, T1, b1, b2, g1, g2, hR2⟩ := h44 n S1 d1 S2 d2 (xs (nI (6 * n) + 1).toNatClampNeg) (xs (nI (6 * n) + 2).toNatClampNeg) (xs (nI (6 * n) + 3).toNatClampNeg) (by omega) hR
      obtain ⟨-, -, y1, y2, y3, y4⟩ := ho (n + 1) _ _ _ _ (by omega) hR2
      exact lc_44 hfl C1 hB n1 n2 n3 z1 z2 g1 g2 y1 y3 y4 y2 y3 y4 (hnext _ _ _ _ hR2) ρ1 ρ2 H locs ls hM1 hM2 hX9 hS hl
    by_cases c45 : x = nI 45
    · refine lw_tsIn (k := 45) (tgt := 1564) hx hb dL_law_33 c45 (by decide) (by decide) rfl (by decide) ?_
      obtain ⟨a, T1, b1, b2, g1, g2, hR2⟩ := h45 n S1 d1 S2 d2 (xs (nI (6 * n) + 1).toNatClampNeg) (by omega) hR
      obtain ⟨-, -, y1, y2, y3, y4⟩ := ho (n + 1) _ _ _ _ (by omega) hR2
      exact lc_45 hfl C1 hB n1 z1 z2 g1 g2 y1 y3 y4 y2 y3 y4 (hnext _ _ _ _ hR2) ρ1 ρ2 H locs ls hM1 hM2 hX9 hS hl
    by_cases c46 : x = nI 46
    · refine lw_tsIn (k := 46) (tgt := 1587) hx hb dL_law_33 c46 (by decide) (by decide) rfl (by decide) ?_
      obtain ⟨a, T1, b1, b2, g1, g2, hR2⟩ := h46 n S1 d1 S2 d2 (xs (nI (6 * n) + 1).toNatClampNeg) (by omega) hR
      obtain ⟨-, -, y1, y2, y3, y4⟩ := ho (n + 1) _ _ _ _ (by omega) hR2
      exact lc_46 hfl C1 hB n1 z1 z2 g1 g2 y1 y3 y4 y2 y3 y4 (hnext _ _ _ _ hR2) ρ1 ρ2 H locs ls hM1 hM2 hX9 hS hl
    by_cases c47 : x = nI 47
    · refine lw_tsIn (k := 47) (tgt := 1610) hx hb dL_law_33 c47 (by decide) (by decide) rfl (by decide) ?_
      obtain ⟨a, T1, b1, b2, g1, g2, hR2⟩ := h47 n S1 d1 S2 d2 (xs (nI (6 * n) + 1).toNatClampNeg) (xs (nI (6 * n) + 2).toNatClampNeg) (by omega) hR
      obtain ⟨-, -, y1, y2, y3, y4⟩ := ho (n + 1) _ _ _ _ (by omega) hR2
      exact lc_47 hfl C1 hB n1 n2 z1 z2 g1 g2 y1 y3 y4 y2 y3 y4 (hnext _ _ _ _ hR2) ρ1 ρ2 H locs ls hM1 hM2 hX9 hS hl
    by_cases c48 : x = nI 48
    · refine lw_tsIn (k := 48) (tgt := 1643) hx hb dL_law_33 c48 (by decide) (by decide) rfl (by decide) ?_
      obtain ⟨a, T1, b1, b2, g1, g2, hR2⟩ := h48 n S1 d1 S2 d2 (xs (nI (6 * n) + 1).toNatClampNeg) (xs (nI (6 * n) + 2).toNatClampNeg) (by omega) hR
      obtain ⟨-, -, y1, y2, y3, y4⟩ := ho (n + 1) _ _ _ _ (by omega) hR2
      exact lc_48 hfl C1 hB n1 n2 z1 z2 g1 g2 y1 y3 y4 y2 y3 y4 (hnext _ _ _ _ hR2) ρ1 ρ2 H locs ls hM1 hM2 hX9 hS hl
    by_cases c49 : x = nI 49
    · refine lw_tsIn (k := 49) (tgt := 1676) hx hb dL_law_33 c49 (by decide) (by decide) rfl (by decide) ?_
      obtain ⟨a, T1, b1, b2, g1, g2, hR2⟩ := h49 n S1 d1 S2 d2 (xs (nI (6 * n) + 1).toNatClampNeg) (xs (nI (6 * n) + 2).toNatClampNeg) (xs (nI (6 * n) + 3).toNatClampNeg) (xs (nI (6 * n) + 4).toNatClampNeg) (xs (nI (6 * n) + 5).toNatClampNeg) (by omega) hR
      obtain ⟨-, -, y1, y2, y3, y4⟩ := ho (n + 1) _ _ _ _ (by omega) hR2
      exact lc_49 hfl C1 hB n1 n2 n3 n4 n5 z1 z2 g1 g2 y1 y3 y4 y2 y3 y4 (hnext _ _ _ _ hR2) ρ1 ρ2 H locs ls hM1 hM2 hX9 hS hl
    by_cases c50 : x = nI 50
    · refine lw_tsIn (k := 50) (tgt := 1739) hx hb dL_law_33 c50 (by decide) (by decide) rfl (by decide) ?_
      obtain ⟨a, T1, b1, b2, g1, g2, hR2⟩ := h50 n S1 d1 S2 d2  (by omega) hR
      obtain ⟨-, -, y1, y2, y3, y4⟩ := ho (n + 1) _ _ _ _ (by omega) hR2
      exact lc_50 hfl C1 hB  z1 z2 g1 g2 y1 y3 y4 y2 y3 y4 (hnext _ _ _ _ hR2) ρ1 ρ2 H locs ls hM1 hM2 hX9 hS hl
    by_cases c51 : x = nI 51
    · refine lw_tsIn (k := 51) (tgt := 1752) hx hb dL_law_33 c51 (by decide) (by decide) rfl (by decide) ?_
      obtain ⟨a, T1, b1, b2, g1, g2, hR2⟩ := h51 n S1 d1 S2 d2  (by omega) hR
      obtain ⟨-, -, y1, y2, y3, y4⟩ := ho (n + 1) _ _ _ _ (by omega) hR2
      exact lc_51 hfl C1 hB  z1 z2 g1 g2 y1 y3 y4 y2 y3 y4 (hnext _ _ _ _ hR2) ρ1 ρ2 H locs ls hM1 hM2 hX9 hS hl
    by_cases c52 : x = nI 52
    · refine lw_tsIn (k := 52) (tgt := 1765) hx hb dL_law_33 c52 (by decide) (by decide) rfl (by decide) ?_
      obtain ⟨a, g1, g2, hR2⟩ := h52 n S1 d1 S2 d2 (xs (nI (6 * n) + 1).toNatClampNeg) (by omega) hR
      obtain ⟨-, -, y1, y2, y3, y4⟩ := ho (n + 1) _ _ _ _ (by omega) hR2
      exact lc_52 hfl C1 hB n1 z1 z2 g1 g2 y1 y3 y4 y2 y3 y4 (hnext _ _ _ _ hR2) ρ1 ρ2 H locs ls hM1 hM2 hX9 hS hl
    by_cases c53 : x = nI 53
    · refine lw_tsIn (k := 53) (tgt := 1788) hx hb dL_law_33 c53 (by decide) (by decide) rfl (by decide) ?_
      obtain ⟨a, T1, b1, b2, g1, g2, hR2⟩ := h53 n S1 d1 S2 d2 (xs (nI (6 * n) + 1).toNatClampNeg) (by omega) hR
      obtain ⟨-, -, y1, y2, y3, y4⟩ := ho (n + 1) _ _ _ _ (by omega) hR2
      exact lc_53 hfl C1 hB n1 z1 z2 g1 g2 y1 y3 y4 y2 y3 y4 (hnext _ _ _ _ hR2) ρ1 ρ2 H locs ls hM1 hM2 hX9 hS hl
    by_cases c54 : x = nI 54
    · refine lw_tsIn (k := 54) (tgt := 1811) hx hb dL_law_33 c54 (by decide) (by decide) rfl (by decide) ?_
      obtain ⟨a, T1, b1, b2, g1, g2, hR2⟩ := h54 n S1 d1 S2 d2 (xs (nI (6 * n) + 1).toNatClampNeg) (by omega) hR
      obtain ⟨-, -, y1, y2, y3, y4⟩ := ho (n + 1) _ _ _ _ (by omega) hR2
      exact lc_54 hfl C1 hB n1 z1 z2 g1 g2 y1 y3 y4 y2 y3 y4 (hnext _ _ _ _ hR2) ρ1 ρ2 H locs ls hM1 hM2 hX9 hS hl
    refine lw_tsOut (tgt := 1834) (n := 54) hx hb dL_law_33 rfl (by decide) (fun k hk => ?_) (by decide) (hnext _ _ _ _ (hm n _ _ _ _ hR) ρ1 ρ2 H locs ls hM1 hM2 hX9 hS hl)
    rcases (show k = 0 ∨ k = 1 ∨ k = 2 ∨ k = 3 ∨ k = 4 ∨ k = 5 ∨ k = 6 ∨ k = 7 ∨ k = 8 ∨ k = 9 ∨ k = 10 ∨ k = 11 ∨ k = 12 ∨ k = 13 ∨ k = 14 ∨ k = 15 ∨ k = 16 ∨ k = 17 ∨ k = 18 ∨ k = 19 ∨ k = 20 ∨ k = 21 ∨ k = 22 ∨ k = 23 ∨ k = 24 ∨ k = 25 ∨ k = 26 ∨ k = 27 ∨ k = 28 ∨ k = 29 ∨ k = 30 ∨ k = 31 ∨ k = 32 ∨ k = 33 ∨ k = 34 ∨ k = 35 ∨ k = 36 ∨ k = 37 ∨ k = 38 ∨ k = 39 ∨ k = 40 ∨ k = 41 ∨ k = 42 ∨ k = 43 ∨ k = 44 ∨ k = 45 ∨ k = 46 ∨ k = 47 ∨ k = 48 ∨ k = 49 ∨ k = 50 ∨ k = 51 ∨ k = 52 ∨ k = 53 ∨ k = 54 by omega) with rfl | rfl | rfl | rfl | rfl | rfl | rfl | rfl | rfl | rfl | rfl | rfl | rfl | rfl | rfl | rfl | rfl | rfl | rfl | rfl | rfl | rfl | rfl | rfl | rfl | rfl | rfl | rfl | rfl | rfl | rfl | rfl | rfl | rfl | rfl | rfl | rfl | rfl | rfl | rfl | rfl | rfl | rfl | rfl | rfl | rfl | rfl | rfl | rfl | rfl | rfl | rfl | rfl | rfl | rfl <;> assumption
/-- a new object in the second memory -/
theorem lw_new2 {Q : State → Prop} (C0 : lw_At p s m meth c b L xs) (hB : LB dC dI dA oa s) {C : String} {Tt : u_T} {N cn idx pc : Nat} (hc : mmCl[cn]? = some (C, Tt, N)) (hin : ∀ w ∈ u_ws C Tt N, w ∈ lw_all) (hty : ∀ k, k < N → parseFieldDescriptor (Tt k).2.2.1 = some (mmTy cn k)) (hr9 : ¬ (50 ≤ cn ∧ cn ≤ 5)) (hlg : ∀ k, k < N → mmTy cn k ≠ .long) (hcl : Cond.classLink R_law idx C ∈ lw_all) (hinst : Cond.instantiable C N ∈ lw_all) (hini : Cond.initialized C ∈ lw_all) (hd : decode code pc = .ok (.new idx, 3))
    {Sa Sb : Sp} {da db : Dt} {ρa ρb : Nat → Nat} {H : Heap} {locs : List Loc} {ls : Array Slot} {st : List Value} (hMb : LM0 dC dI dA oa s ρb Sb db H) (hMa : LM0 dC dI dA oa s ρa Sa da H) (hX9 : LX (mmW dA ρb Sb db) (mmW dA ρa Sa da)) (hS : va_S (lwA s) s.heap H locs) (hn9 : Sa.1.length < OPQ) (hc1 : Sb.2.2.1 + Sa.2.2.1 + 1 ≤ 1136687) (hc2 : Sb.2.2.2 + Sa.2.2.2 + N ≤ 5675420)
    (kk : ∀ (ρ' : Nat → Nat) (H' : Heap), (∀ x, okR Sa x → ρ' x = ρa x) → LM dC dI dA oa s ρ' (mmNew Sa (cn, 0) N) (mmNewD Sa da) H' → LM0 dC dI dA oa s ρb Sb db H' → LX (mmW dA ρb Sb db) (mmW dA ρ' (mmNew Sa (cn, 0) N) (mmNewD Sa da)) → va_S (lwA s) s.heap H' locs →
      W p l e room_1 s m #[Value.ref b] below meth c H' locs (Sb.2.2.1 + (mmNew Sa (cn, 0) N).2.2.1) (Sb.2.2.2 + (mmNew Sa (cn, 0) N).2.2.2) Q (F0 m (pc + 3) ls (.ref (ρ' Sa.1.length) :: st))) :
    W p l e room_1 s m #[Value.ref b] below meth c H locs (Sb.2.2.1 + Sa.2.2.1) (Sb.2.2.2 + Sa.2.2.2) Q (F0 m pc ls st) := by
  have h := lw_new C0 hB hc hin hty hr9 hlg hcl hinst hini hd hMa hMb hX9.symm hS hn9 (by omega) (by omega) (fun ρ' H' z0 z1 z2 z3 z4 => by
    have h9 := kk ρ' H' z0 z1 z2 z3.symm z4
    rw [show Sb.2.2.1 + (mmNew Sa (cn, 0) N).2.2.1 = Sa.2.2.1 + Sb.2.2.1 + 1 from by dsimp only [mmNew]; omega, show Sb.2.2.2 + (mmNew Sa (cn, 0) N).2.2.2 = Sa.2.2.2 + Sb.2.2.2 + N from by dsimp only [mmNew]; omega] at h9
    exact h9)
  rw [Nat.add_comm, Nat.add_comm Sb.2.2.2]
  exact h
set_option maxHeartbeats 4000000 in
theorem start_of {Rel : RelT} (hflags : l.flags = flags0) (hL : L ≤ 384) (C0 : lw_At p s m meth c b L xs) (ho : PLo Rel) (hm : PLm Rel) (hi : PLi Rel) (h0 : PL_0 Rel) (h1 : PL_1 Rel) (h2 : PL_2 Rel) (h3 : PL_3 Rel) (h4 : PL_4 Rel) (h5 : PL_5 Rel) (h6 : PL_6 Rel) (h7 : PL_7 Rel) (h8 : PL_8 Rel) (h9 : PL_9 Rel) (h10 : PL_10 Rel) (h11 : PL_11 Rel) (h12 : PL_12 Rel) (h13 : PL_13 Rel) (h14 : PL_14 Rel) (h15 : PL_15 Rel) (h16 : PL_16 Rel) (h17 : PL_17 Rel) (h18 : PL_18 Rel) (h19 : PL_19 Rel) (h20 : PL_20 Rel) (h21 : PL_21 Rel) (h22 : PL_22 Rel) (h23 : PL_23 Rel) (h24 : PL_24 Rel) (h25 : PL_25 Rel) (h26 : PL_26 Rel) (h27 : PL_27 Rel) (h28 : PL_28 Rel) (h29 : PL_29 Rel) (h30 : PL_30 Rel) (h31 : PL_31 Rel) (h32 : PL_32 Rel) (h33 : PL_33 Rel) (h34 : PL_34 Rel) (h35 : PL_35 Rel) (h36 : PL_36 Rel) (h37 : PL_37 Rel) (h38 : PL_38 Rel) (h39 : PL_39 Rel) (h40 : PL_40 Rel) (h41 : PL_41 Rel) (h42 : PL_42 Rel) (h43 : PL_43 Rel) (h44 : PL_44 Rel) (h45 : PL_45 Rel) (h46 : PL_46 Rel) (h47 : PL_47 Rel) (h48 : PL_48 Rel) (h49 : PL_49 Rel) (h50 : PL_50 Rel) (h51 : PL_51 Rel) (h52 : PL_52 Rel) (h53 : PL_53 Rel) (h54 : PL_54 Rel) : W p l e room_1 s m #[Value.ref b] below meth c s.heap [] 0 0 (lw_Z below #[Value.ref b] s) (entryFrame m ([Value.ref b] : List Value).toArray 4) := by
  have hfl := hflags
  have C1 := C0
  obtain ⟨dC, dI, dA, oa, hB⟩ := lb_of C0
  obtain ⟨hx, hb, hr, hml, hown, hts, hX, hbl, hlk, hgv⟩ := C0
  obtain ⟨S1, d1, S2, d2, i1, i2, hR⟩ := hi
  obtain ⟨z1, z2, o1, o2, o3, o4⟩ := ho 0 S1 d1 S2 d2 (by omega) hR
  have le1 := (Ws_init_fn 0 (mmNew Sp0 (0, 0) 36) (mmNewD Sp0 Dt0) _ i1).1
  have le2 := (Mo_init_fn 0 (mmNew Sp0 (9, 0) 62) (mmNewD Sp0 Dt0) _ i2).1
  have hw0 : ∀ (ρ : Nat → Nat), mmW dA ρ Sp0 Dt0 = [] := fun _ => rfl
  have hE : ∀ (H : Heap), LM0 dC dI dA oa s (fun x => oa (x - OPQ)) Sp0 Dt0 H := fun H => ⟨fun k q h => (nomatch h), ⟨fun i j p q h => (nomatch h), fun k q h => (nomatch h)⟩, fun v j t h => (nomatch h), fun k => by show oa (OPQ + k - OPQ) = oa k; rw [Nat.add_sub_cancel_left]⟩
  rw [lg_entry_eq]
  have hl : lv_has ((lg_sl [Value.ref b] ++ List.replicate (4 - (lg_sl [Value.ref b]).length) Slot.unset).toArray) 4 [(0, .ref b)] := lv_entry [Value.ref b] (by show 1 ≤ 4; decide)
  refine lw_new (pc := 0) (idx := 7) C1 hB cl_X0 in_X0 tyX0_ok (by decide) lg_X0 q174 q175 q137 dL_law_0 (hE _) (hE _) (fun i j a e1 e2 h => (nomatch h)) va_S.rf (by decide) (by decide) (by decide) (fun ρ1 H1 g1 gM1 gE gX gS => ?_)
  have hr1 : mmRho Sp0 ρ1 0 = mmRho Sp0 ρ1 0 := rfl
  refine lv_dup hx hb dL_law_3 rfl ?_
  refine lw_call0 (pc := 4) (st := [va_rf (some 0), va_rf (some 0)]) (st' := [va_rf (some 0)]) hfl C1 hB (Ws_init_fn 0 (mmNew Sp0 (0, 0) 36) (mmNewD Sp0 Dt0)) i1 (JC_I (n := 0) (v := 0) (lw_G hfl C1 hB) lw_Rm q176 q177 q137 q178 rfl dd_X0_init ⟨by decide, by decide⟩ dL_law_4 rfl (Nat.le_of_ble_eq_true rfl)) (ok_int (l9 := []) (Or.inl gM1.2.2.2.2)) (fun x hx9 => by rw [List.mem_singleton.mp hx9]; exact okV_rf.mpr (fun t ht => by cases ht; exact Or.inl gM1.2.2.2.2)) gM1 gE gX gS hl.1 o1 (Nat.le_trans (Nat.le_add_right _ _) o3) (Nat.le_trans (Nat.le_add_right _ _) o4) (fun ρ2 H2 locs2 hρ2 gM2 gE2 gX2 gS2 => ?_)
  refine lv_astore_n (k := 1) (i := 1) (lv' := [(1, .ref (ρ1 0)), (0, .ref b)]) hx hb dL_law_7 rfl hl (by decide) rfl (fun ls hl => ?_)
  have n1 : 0 < S1.1.length := gM2.2.2.2.2
  have q1 := le2.2.1
  have q2 := le2.2.2
  dsimp only [mmNew, Sp0] at q1 q2
  refine lw_new2 (pc := 8) (idx := 10) C1 hB cl_X10 in_X10 tyX10_ok (by decide) lg_X10 q1583 q1584 q152 dL_law_8 gM2.o gE2 gX2 gS2 (by decide) (by dsimp only [Sp0]; omega) (by dsimp only [Sp0]; omega) (fun ρ3 H3 g3 gM3 gE3 gX3 gS3 => ?_)
  refine lv_dup hx hb dL_law_11 rfl ?_
  refine lw_call2 (pc := 12) (st := [va_rf (some 0), va_rf (some 0)]) (st' := [va_rf (some 0)]) hfl C1 hB (Mo_init_fn 0 (mmNew Sp0 (9, 0) 62) (mmNewD Sp0 Dt0)) i2 (JC_I (n := 0) (v := 0) (lw_G hfl C1 hB) lw_Rm q1585 q1586 q152 q1587 rfl dd_X10_init ⟨by decide, by decide⟩ dL_law_12 rfl (Nat.le_of_ble_eq_true rfl)) (ok_int (l9 := []) (Or.inl gM3.2.2.2.2)) (fun x hx9 => by rw [List.mem_singleton.mp hx9]; exact okV_rf.mpr (fun t ht => by cases ht; exact Or.inl gM3.2.2.2.2)) (gE3.m n1) gM3 gX3 gS3 hl.1 o2 o3 o4 (fun ρ4 H4 locs4 hρ4 gM4 gN4 gX4 gS4 => ?_)
  refine lv_astore_n (k := 2) (i := 2) (lv' := [(2, .ref (ρ3 0)), (1, .ref (ρ1 0)), (0, .ref b)]) hx hb dL_law_15 rfl hl (by decide) rfl (fun ls hl => ?_)
  refine lv_iconst (v := 0) hx hb dL_law_16 (by decide) ?_
  refine lv_istore_n (k := 3) (i := 3) (lv' := [(3, .int 0), (2, .ref (ρ3 0)), (1, .ref (ρ1 0)), (0, .ref b)]) hx hb dL_law_17 rfl hl (by decide) rfl (fun ls hl => ?_)
  have e1 : ρ2 0 = ρ1 0 := hρ2 0 (Or.inl gM1.2.2.2.2)
  have e2 : ρ4 0 = ρ3 0 := hρ4 0 (Or.inl gM3.2.2.2.2)
  exact lw_loop hfl C1 hB hL ho hm h0 h1 h2 h3 h4 h5 h6 h7 h8 h9 h10 h11 h12 h13 h14 h15 h16 h17 h18 h19 h20 h21 h22 h23 h24 h25 h26 h27 h28 h29 h30 h31 h32 h33 h34 h35 h36 h37 h38 h39 h40 h41 h42 h43 h44 h45 h46 h47 h48 h49 h50 h51 h52 h53 h54 64 0 rfl S1 d1 S2 d2 hR ρ2 ρ4 H4 locs4 ls gM4 gN4 gX4 gS4 ⟨hl.1, hl.2.1, fun q hq => hl.2.2 q (by rw [e1, e2] at hq; simp only [List.mem_cons, List.not_mem_nil, or_false] at hq ⊢; rcases hq with h | h | h | h <;> simp [h, nI_0])⟩
end
