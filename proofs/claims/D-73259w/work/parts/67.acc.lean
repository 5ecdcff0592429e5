/-! THE PLAIN LAW: the fixed places of both memories -/
set_option maxRecDepth 100000
theorem nI_eq_nlit (n : Nat) : nI n = (OfNat.ofNat n : Int32) := rfl
theorem ma1 {i : Nat} (h : i < 201) : aix MoS 50 (some 1) (nI i) = some (1, i) := aix_nI (Mo_a (a := 1) (sh := (50, 201)) rfl) h (by omega)
theorem mx1 {i : Int32} (h : vp_in i 201) : aix MoS 50 (some 1) i = some (1, i.toNatClampNeg) := aix_some (Mo_a (a := 1) (sh := (50, 201)) rfl) h
theorem ma2 {i : Nat} (h : i < 603) : aix MoS 50 (some 2) (nI i) = some (2, i) := aix_nI (Mo_a (a := 2) (sh := (50, 603)) rfl) h (by omega)
theorem mx2 {i : Int32} (h : vp_in i 603) : aix MoS 50 (some 2) i = some (2, i.toNatClampNeg) := aix_some (Mo_a (a := 2) (sh := (50, 603)) rfl) h
theorem ma3 {i : Nat} (h : i < 3) : aix MoS 51 (some 3) (nI i) = some (3, i) := aix_nI (Mo_a (a := 3) (sh := (51, 3)) rfl) h (by omega)
theorem mx3 {i : Int32} (h : vp_in i 3) : aix MoS 51 (some 3) i = some (3, i.toNatClampNeg) := aix_some (Mo_a (a := 3) (sh := (51, 3)) rfl) h
theorem ma4 {i : Nat} (h : i < 1000) : aix MoS 52 (some 4) (nI i) = some (4, i) := aix_nI (Mo_a (a := 4) (sh := (52, 1000)) rfl) h (by omega)
theorem mx4 {i : Int32} (h : vp_in i 1000) : aix MoS 52 (some 4) i = some (4, i.toNatClampNeg) := aix_some (Mo_a (a := 4) (sh := (52, 1000)) rfl) h
theorem ma5 {i : Nat} (h : i < 5) : aix MoS 50 (some 5) (nI i) = some (5, i) := aix_nI (Mo_a (a := 5) (sh := (50, 5)) rfl) h (by omega)
theorem mx5 {i : Int32} (h : vp_in i 5) : aix MoS 50 (some 5) i = some (5, i.toNatClampNeg) := aix_some (Mo_a (a := 5) (sh := (50, 5)) rfl) h
theorem ma6 {i : Nat} (h : i < 201) : aix MoS 50 (some 6) (nI i) = some (6, i) := aix_nI (Mo_a (a := 6) (sh := (50, 201)) rfl) h (by omega)
theorem mx6 {i : Int32} (h : vp_in i 201) : aix MoS 50 (some 6) i = some (6, i.toNatClampNeg) := aix_some (Mo_a (a := 6) (sh := (50, 201)) rfl) h
theorem ma7 {i : Nat} (h : i < 6) : aix MoS 50 (some 7) (nI i) = some (7, i) := aix_nI (Mo_a (a := 7) (sh := (50, 6)) rfl) h (by omega)
theorem mx7 {i : Int32} (h : vp_in i 6) : aix MoS 50 (some 7) i = some (7, i.toNatClampNeg) := aix_some (Mo_a (a := 7) (sh := (50, 6)) rfl) h
theorem ma8 {i : Nat} (h : i < 5) : aix MoS 50 (some 8) (nI i) = some (8, i) := aix_nI (Mo_a (a := 8) (sh := (50, 5)) rfl) h (by omega)
theorem mx8 {i : Int32} (h : vp_in i 5) : aix MoS 50 (some 8) i = some (8, i.toNatClampNeg) := aix_some (Mo_a (a := 8) (sh := (50, 5)) rfl) h
theorem ma9 {i : Nat} (h : i < 5) : aix MoS 50 (some 9) (nI i) = some (9, i) := aix_nI (Mo_a (a := 9) (sh := (50, 5)) rfl) h (by omega)
theorem mx9 {i : Int32} (h : vp_in i 5) : aix MoS 50 (some 9) i = some (9, i.toNatClampNeg) := aix_some (Mo_a (a := 9) (sh := (50, 5)) rfl) h
theorem ma10 {i : Nat} (h : i < 5) : aix MoS 50 (some 10) (nI i) = some (10, i) := aix_nI (Mo_a (a := 10) (sh := (50, 5)) rfl) h (by omega)
theorem mx10 {i : Int32} (h : vp_in i 5) : aix MoS 50 (some 10) i = some (10, i.toNatClampNeg) := aix_some (Mo_a (a := 10) (sh := (50, 5)) rfl) h
theorem ma11 {i : Nat} (h : i < 5) : aix MoS 50 (some 11) (nI i) = some (11, i) := aix_nI (Mo_a (a := 11) (sh := (50, 5)) rfl) h (by omega)
theorem mx11 {i : Int32} (h : vp_in i 5) : aix MoS 50 (some 11) i = some (11, i.toNatClampNeg) := aix_some (Mo_a (a := 11) (sh := (50, 5)) rfl) h
theorem ma12 {i : Nat} (h : i < 5) : aix MoS 50 (some 12) (nI i) = some (12, i) := aix_nI (Mo_a (a := 12) (sh := (50, 5)) rfl) h (by omega)
theorem mx12 {i : Int32} (h : vp_in i 5) : aix MoS 50 (some 12) i = some (12, i.toNatClampNeg) := aix_some (Mo_a (a := 12) (sh := (50, 5)) rfl) h
theorem ma13 {i : Nat} (h : i < 64) : aix MoS 50 (some 13) (nI i) = some (13, i) := aix_nI (Mo_a (a := 13) (sh := (50, 64)) rfl) h (by omega)
theorem mx13 {i : Int32} (h : vp_in i 64) : aix MoS 50 (some 13) i = some (13, i.toNatClampNeg) := aix_some (Mo_a (a := 13) (sh := (50, 64)) rfl) h
theorem ma14 {i : Nat} (h : i < 5) : aix MoS 50 (some 14) (nI i) = some (14, i) := aix_nI (Mo_a (a := 14) (sh := (50, 5)) rfl) h (by omega)
theorem mx14 {i : Int32} (h : vp_in i 5) : aix MoS 50 (some 14) i = some (14, i.toNatClampNeg) := aix_some (Mo_a (a := 14) (sh := (50, 5)) rfl) h
theorem ma15 {i : Nat} (h : i < 5) : aix MoS 50 (some 15) (nI i) = some (15, i) := aix_nI (Mo_a (a := 15) (sh := (50, 5)) rfl) h (by omega)
theorem mx15 {i : Int32} (h : vp_in i 5) : aix MoS 50 (some 15) i = some (15, i.toNatClampNeg) := aix_some (Mo_a (a := 15) (sh := (50, 5)) rfl) h
theorem ma16 {i : Nat} (h : i < 5) : aix MoS 50 (some 16) (nI i) = some (16, i) := aix_nI (Mo_a (a := 16) (sh := (50, 5)) rfl) h (by omega)
theorem mx16 {i : Int32} (h : vp_in i 5) : aix MoS 50 (some 16) i = some (16, i.toNatClampNeg) := aix_some (Mo_a (a := 16) (sh := (50, 5)) rfl) h
theorem ma17 {i : Nat} (h : i < 5) : aix MoS 50 (some 17) (nI i) = some (17, i) := aix_nI (Mo_a (a := 17) (sh := (50, 5)) rfl) h (by omega)
theorem mx17 {i : Int32} (h : vp_in i 5) : aix MoS 50 (some 17) i = some (17, i.toNatClampNeg) := aix_some (Mo_a (a := 17) (sh := (50, 5)) rfl) h
theorem ma18 {i : Nat} (h : i < 5) : aix MoS 50 (some 18) (nI i) = some (18, i) := aix_nI (Mo_a (a := 18) (sh := (50, 5)) rfl) h (by omega)
theorem mx18 {i : Int32} (h : vp_in i 5) : aix MoS 50 (some 18) i = some (18, i.toNatClampNeg) := aix_some (Mo_a (a := 18) (sh := (50, 5)) rfl) h
theorem ma19 {i : Nat} (h : i < 5) : aix MoS 50 (some 19) (nI i) = some (19, i) := aix_nI (Mo_a (a := 19) (sh := (50, 5)) rfl) h (by omega)
theorem mx19 {i : Int32} (h : vp_in i 5) : aix MoS 50 (some 19) i = some (19, i.toNatClampNeg) := aix_some (Mo_a (a := 19) (sh := (50, 5)) rfl) h
theorem ma20 {i : Nat} (h : i < 5) : aix MoS 50 (some 20) (nI i) = some (20, i) := aix_nI (Mo_a (a := 20) (sh := (50, 5)) rfl) h (by omega)
theorem mx20 {i : Int32} (h : vp_in i 5) : aix MoS 50 (some 20) i = some (20, i.toNatClampNeg) := aix_some (Mo_a (a := 20) (sh := (50, 5)) rfl) h
theorem ma21 {i : Nat} (h : i < 5) : aix MoS 51 (some 21) (nI i) = some (21, i) := aix_nI (Mo_a (a := 21) (sh := (51, 5)) rfl) h (by omega)
theorem mx21 {i : Int32} (h : vp_in i 5) : aix MoS 51 (some 21) i = some (21, i.toNatClampNeg) := aix_some (Mo_a (a := 21) (sh := (51, 5)) rfl) h
theorem ma22 {i : Nat} (h : i < 5) : aix MoS 50 (some 22) (nI i) = some (22, i) := aix_nI (Mo_a (a := 22) (sh := (50, 5)) rfl) h (by omega)
theorem mx22 {i : Int32} (h : vp_in i 5) : aix MoS 50 (some 22) i = some (22, i.toNatClampNeg) := aix_some (Mo_a (a := 22) (sh := (50, 5)) rfl) h
theorem ma23 {i : Nat} (h : i < 5) : aix MoS 50 (some 23) (nI i) = some (23, i) := aix_nI (Mo_a (a := 23) (sh := (50, 5)) rfl) h (by omega)
theorem mx23 {i : Int32} (h : vp_in i 5) : aix MoS 50 (some 23) i = some (23, i.toNatClampNeg) := aix_some (Mo_a (a := 23) (sh := (50, 5)) rfl) h
theorem ma24 {i : Nat} (h : i < 5) : aix MoS 53 (some 24) (nI i) = some (24, i) := aix_nI (Mo_a (a := 24) (sh := (53, 5)) rfl) h (by omega)
theorem mx24 {i : Int32} (h : vp_in i 5) : aix MoS 53 (some 24) i = some (24, i.toNatClampNeg) := aix_some (Mo_a (a := 24) (sh := (53, 5)) rfl) h
theorem ma25 {i : Nat} (h : i < 5) : aix MoS 50 (some 25) (nI i) = some (25, i) := aix_nI (Mo_a (a := 25) (sh := (50, 5)) rfl) h (by omega)
theorem mx25 {i : Int32} (h : vp_in i 5) : aix MoS 50 (some 25) i = some (25, i.toNatClampNeg) := aix_some (Mo_a (a := 25) (sh := (50, 5)) rfl) h
theorem ma26 {i : Nat} (h : i < 5) : aix MoS 51 (some 26) (nI i) = some (26, i) := aix_nI (Mo_a (a := 26) (sh := (51, 5)) rfl) h (by omega)
theorem mx26 {i : Int32} (h : vp_in i 5) : aix MoS 51 (some 26) i = some (26, i.toNatClampNeg) := aix_some (Mo_a (a := 26) (sh := (51, 5)) rfl) h
theorem ma27 {i : Nat} (h : i < 5) : aix MoS 50 (some 27) (nI i) = some (27, i) := aix_nI (Mo_a (a := 27) (sh := (50, 5)) rfl) h (by omega)
theorem mx27 {i : Int32} (h : vp_in i 5) : aix MoS 50 (some 27) i = some (27, i.toNatClampNeg) := aix_some (Mo_a (a := 27) (sh := (50, 5)) rfl) h
theorem ma28 {i : Nat} (h : i < 5) : aix MoS 50 (some 28) (nI i) = some (28, i) := aix_nI (Mo_a (a := 28) (sh := (50, 5)) rfl) h (by omega)
theorem mx28 {i : Int32} (h : vp_in i 5) : aix MoS 50 (some 28) i = some (28, i.toNatClampNeg) := aix_some (Mo_a (a := 28) (sh := (50, 5)) rfl) h
theorem ma29 {i : Nat} (h : i < 5) : aix MoS 53 (some 29) (nI i) = some (29, i) := aix_nI (Mo_a (a := 29) (sh := (53, 5)) rfl) h (by omega)
theorem mx29 {i : Int32} (h : vp_in i 5) : aix MoS 53 (some 29) i = some (29, i.toNatClampNeg) := aix_some (Mo_a (a := 29) (sh := (53, 5)) rfl) h
theorem ma30 {i : Nat} (h : i < 5) : aix MoS 54 (some 30) (nI i) = some (30, i) := aix_nI (Mo_a (a := 30) (sh := (54, 5)) rfl) h (by omega)
theorem mx30 {i : Int32} (h : vp_in i 5) : aix MoS 54 (some 30) i = some (30, i.toNatClampNeg) := aix_some (Mo_a (a := 30) (sh := (54, 5)) rfl) h
theorem ma31 {i : Nat} (h : i < 5) : aix MoS 50 (some 31) (nI i) = some (31, i) := aix_nI (Mo_a (a := 31) (sh := (50, 5)) rfl) h (by omega)
theorem mx31 {i : Int32} (h : vp_in i 5) : aix MoS 50 (some 31) i = some (31, i.toNatClampNeg) := aix_some (Mo_a (a := 31) (sh := (50, 5)) rfl) h
theorem ma32 {i : Nat} (h : i < 1000) : aix MoS 50 (some 32) (nI i) = some (32, i) := aix_nI (Mo_a (a := 32) (sh := (50, 1000)) rfl) h (by omega)
theorem mx32 {i : Int32} (h : vp_in i 1000) : aix MoS 50 (some 32) i = some (32, i.toNatClampNeg) := aix_some (Mo_a (a := 32) (sh := (50, 1000)) rfl) h
theorem ma33 {i : Nat} (h : i < 255) : aix MoS 50 (some 33) (nI i) = some (33, i) := aix_nI (Mo_a (a := 33) (sh := (50, 255)) rfl) h (by omega)
theorem mx33 {i : Int32} (h : vp_in i 255) : aix MoS 50 (some 33) i = some (33, i.toNatClampNeg) := aix_some (Mo_a (a := 33) (sh := (50, 255)) rfl) h
theorem ma34 {i : Nat} (h : i < 19) : aix MoS 51 (some 34) (nI i) = some (34, i) := aix_nI (Mo_a (a := 34) (sh := (51, 19)) rfl) h (by omega)
theorem mx34 {i : Int32} (h : vp_in i 19) : aix MoS 51 (some 34) i = some (34, i.toNatClampNeg) := aix_some (Mo_a (a := 34) (sh := (51, 19)) rfl) h
theorem ma35 {i : Nat} (h : i < 3) : aix MoS 51 (some 35) (nI i) = some (35, i) := aix_nI (Mo_a (a := 35) (sh := (51, 3)) rfl) h (by omega)
theorem mx35 {i : Int32} (h : vp_in i 3) : aix MoS 51 (some 35) i = some (35, i.toNatClampNeg) := aix_some (Mo_a (a := 35) (sh := (51, 3)) rfl) h
theorem ma36 {i : Nat} (h : i < 3) : aix MoS 51 (some 36) (nI i) = some (36, i) := aix_nI (Mo_a (a := 36) (sh := (51, 3)) rfl) h (by omega)
theorem mx36 {i : Int32} (h : vp_in i 3) : aix MoS 51 (some 36) i = some (36, i.toNatClampNeg) := aix_some (Mo_a (a := 36) (sh := (51, 3)) rfl) h
theorem ma37 {i : Nat} (h : i < 200) : aix MoS 50 (some 37) (nI i) = some (37, i) := aix_nI (Mo_a (a := 37) (sh := (50, 200)) rfl) h (by omega)
theorem mx37 {i : Int32} (h : vp_in i 200) : aix MoS 50 (some 37) i = some (37, i.toNatClampNeg) := aix_some (Mo_a (a := 37) (sh := (50, 200)) rfl) h
theorem ma38 {i : Nat} (h : i < 4000) : aix MoS 50 (some 38) (nI i) = some (38, i) := aix_nI (Mo_a (a := 38) (sh := (50, 4000)) rfl) h (by omega)
theorem mx38 {i : Int32} (h : vp_in i 4000) : aix MoS 50 (some 38) i = some (38, i.toNatClampNeg) := aix_some (Mo_a (a := 38) (sh := (50, 4000)) rfl) h
theorem ma39 {i : Nat} (h : i < 4000) : aix MoS 50 (some 39) (nI i) = some (39, i) := aix_nI (Mo_a (a := 39) (sh := (50, 4000)) rfl) h (by omega)
theorem mx39 {i : Int32} (h : vp_in i 4000) : aix MoS 50 (some 39) i = some (39, i.toNatClampNeg) := aix_some (Mo_a (a := 39) (sh := (50, 4000)) rfl) h
theorem ma40 {i : Nat} (h : i < 4000) : aix MoS 50 (some 40) (nI i) = some (40, i) := aix_nI (Mo_a (a := 40) (sh := (50, 4000)) rfl) h (by omega)
theorem mx40 {i : Int32} (h : vp_in i 4000) : aix MoS 50 (some 40) i = some (40, i.toNatClampNeg) := aix_some (Mo_a (a := 40) (sh := (50, 4000)) rfl) h
theorem ma41 {i : Nat} (h : i < 4000) : aix MoS 50 (some 41) (nI i) = some (41, i) := aix_nI (Mo_a (a := 41) (sh := (50, 4000)) rfl) h (by omega)
theorem mx41 {i : Int32} (h : vp_in i 4000) : aix MoS 50 (some 41) i = some (41, i.toNatClampNeg) := aix_some (Mo_a (a := 41) (sh := (50, 4000)) rfl) h
theorem Ws_at0 {S : Sp} (hF : WsFix S) {a : Nat} {sh : Nat × Nat} (ha : a < 35) (h : WsL[a]? = some sh) : S.1[a]? = some sh := (hF.1 a ha).trans h
theorem cr1 {S : Sp} (hF : WsFix S) : S.2.1 0 1 = some 7 := (hF.2.1 1 (by omega) (by omega)).trans WsS_R0_1
theorem cr2 {S : Sp} (hF : WsFix S) : S.2.1 0 2 = some 8 := (hF.2.1 2 (by omega) (by omega)).trans WsS_R0_2
theorem cr8 {S : Sp} (hF : WsFix S) : S.2.1 0 8 = some 9 := (hF.2.1 8 (by omega) (by omega)).trans WsS_R0_8
theorem cr9 {S : Sp} (hF : WsFix S) : S.2.1 0 9 = some 10 := (hF.2.1 9 (by omega) (by omega)).trans WsS_R0_9
theorem cr11 {S : Sp} (hF : WsFix S) : S.2.1 0 11 = some 11 := (hF.2.1 11 (by omega) (by omega)).trans WsS_R0_11
theorem cr12 {S : Sp} (hF : WsFix S) : S.2.1 0 12 = some 16 := (hF.2.1 12 (by omega) (by omega)).trans WsS_R0_12
theorem cr13 {S : Sp} (hF : WsFix S) : S.2.1 0 13 = some 17 := (hF.2.1 13 (by omega) (by omega)).trans WsS_R0_13
theorem cr14 {S : Sp} (hF : WsFix S) : S.2.1 0 14 = some 18 := (hF.2.1 14 (by omega) (by omega)).trans WsS_R0_14
theorem cr15 {S : Sp} (hF : WsFix S) : S.2.1 0 15 = some 19 := (hF.2.1 15 (by omega) (by omega)).trans WsS_R0_15
theorem cr16 {S : Sp} (hF : WsFix S) : S.2.1 0 16 = some 20 := (hF.2.1 16 (by omega) (by omega)).trans WsS_R0_16
theorem cr17 {S : Sp} (hF : WsFix S) : S.2.1 0 17 = some 21 := (hF.2.1 17 (by omega) (by omega)).trans WsS_R0_17
theorem cr18 {S : Sp} (hF : WsFix S) : S.2.1 0 18 = some 22 := (hF.2.1 18 (by omega) (by omega)).trans WsS_R0_18
theorem cr19 {S : Sp} (hF : WsFix S) : S.2.1 0 19 = some 23 := (hF.2.1 19 (by omega) (by omega)).trans WsS_R0_19
theorem cr20 {S : Sp} (hF : WsFix S) : S.2.1 0 20 = some 24 := (hF.2.1 20 (by omega) (by omega)).trans WsS_R0_20
theorem cr21 {S : Sp} (hF : WsFix S) : S.2.1 0 21 = some 25 := (hF.2.1 21 (by omega) (by omega)).trans WsS_R0_21
theorem cr22 {S : Sp} (hF : WsFix S) : S.2.1 0 22 = some 26 := (hF.2.1 22 (by omega) (by omega)).trans WsS_R0_22
theorem cr23 {S : Sp} (hF : WsFix S) : S.2.1 0 23 = some 27 := (hF.2.1 23 (by omega) (by omega)).trans WsS_R0_23
theorem cr32 {S : Sp} (hF : WsFix S) : S.2.1 0 32 = some 28 := (hF.2.1 32 (by omega) (by omega)).trans WsS_R0_32
theorem cr33 {S : Sp} (hF : WsFix S) : S.2.1 0 33 = some 29 := (hF.2.1 33 (by omega) (by omega)).trans WsS_R0_33
theorem ca7 {S : Sp} (hF : WsFix S) {i : Nat} (h : i < 3) : aix S 55 (some 7) (nI i) = some (7, i) := aix_nI (Ws_at0 hF (a := 7) (sh := (55, 3)) (by omega) rfl) h (by omega)
theorem cx7 {S : Sp} (hF : WsFix S) {i : Int32} (h : vp_in i 3) : aix S 55 (some 7) i = some (7, i.toNatClampNeg) := aix_some (Ws_at0 hF (a := 7) (sh := (55, 3)) (by omega) rfl) h
theorem ca8 {S : Sp} (hF : WsFix S) {i : Nat} (h : i < 1000) : aix S 52 (some 8) (nI i) = some (8, i) := aix_nI (Ws_at0 hF (a := 8) (sh := (52, 1000)) (by omega) rfl) h (by omega)
theorem cx8 {S : Sp} (hF : WsFix S) {i : Int32} (h : vp_in i 1000) : aix S 52 (some 8) i = some (8, i.toNatClampNeg) := aix_some (Ws_at0 hF (a := 8) (sh := (52, 1000)) (by omega) rfl) h
theorem ca9 {S : Sp} (hF : WsFix S) {i : Nat} (h : i < 64) : aix S 50 (some 9) (nI i) = some (9, i) := aix_nI (Ws_at0 hF (a := 9) (sh := (50, 64)) (by omega) rfl) h (by omega)
theorem cx9 {S : Sp} (hF : WsFix S) {i : Int32} (h : vp_in i 64) : aix S 50 (some 9) i = some (9, i.toNatClampNeg) := aix_some (Ws_at0 hF (a := 9) (sh := (50, 64)) (by omega) rfl) h
theorem ca10 {S : Sp} (hF : WsFix S) {i : Nat} (h : i < 5) : aix S 50 (some 10) (nI i) = some (10, i) := aix_nI (Ws_at0 hF (a := 10) (sh := (50, 5)) (by omega) rfl) h (by omega)
theorem cx10 {S : Sp} (hF : WsFix S) {i : Int32} (h : vp_in i 5) : aix S 50 (some 10) i = some (10, i.toNatClampNeg) := aix_some (Ws_at0 hF (a := 10) (sh := (50, 5)) (by omega) rfl) h
theorem ca11 {S : Sp} (hF : WsFix S) {i : Nat} (h : i < 4) : aix S 56 (some 11) (nI i) = some (11, i) := aix_nI (Ws_at0 hF (a := 11) (sh := (56, 4)) (by omega) rfl) h (by omega)
theorem cx11 {S : Sp} (hF : WsFix S) {i : Int32} (h : vp_in i 4) : aix S 56 (some 11) i = some (11, i.toNatClampNeg) := aix_some (Ws_at0 hF (a := 11) (sh := (56, 4)) (by omega) rfl) h
theorem ca16 {S : Sp} (hF : WsFix S) {i : Nat} (h : i < 5) : aix S 57 (some 16) (nI i) = some (16, i) := aix_nI (Ws_at0 hF (a := 16) (sh := (57, 5)) (by omega) rfl) h (by omega)
theorem cx16 {S : Sp} (hF : WsFix S) {i : Int32} (h : vp_in i 5) : aix S 57 (some 16) i = some (16, i.toNatClampNeg) := aix_some (Ws_at0 hF (a := 16) (sh := (57, 5)) (by omega) rfl) h
theorem ca17 {S : Sp} (hF : WsFix S) {i : Nat} (h : i < 200) : aix S 50 (some 17) (nI i) = some (17, i) := aix_nI (Ws_at0 hF (a := 17) (sh := (50, 200)) (by omega) rfl) h (by omega)
theorem cx17 {S : Sp} (hF : WsFix S) {i : Int32} (h : vp_in i 200) : aix S 50 (some 17) i = some (17, i.toNatClampNeg) := aix_some (Ws_at0 hF (a := 17) (sh := (50, 200)) (by omega) rfl) h
theorem ca18 {S : Sp} (hF : WsFix S) {i : Nat} (h : i < 3) : aix S 50 (some 18) (nI i) = some (18, i) := aix_nI (Ws_at0 hF (a := 18) (sh := (50, 3)) (by omega) rfl) h (by omega)
theorem cx18 {S : Sp} (hF : WsFix S) {i : Int32} (h : vp_in i 3) : aix S 50 (some 18) i = some (18, i.toNatClampNeg) := aix_some (Ws_at0 hF (a := 18) (sh := (50, 3)) (by omega) rfl) h
theorem ca19 {S : Sp} (hF : WsFix S) {i : Nat} (h : i < 3) : aix S 50 (some 19) (nI i) = some (19, i) := aix_nI (Ws_at0 hF (a := 19) (sh := (50, 3)) (by omega) rfl) h (by omega)
theorem cx19 {S : Sp} (hF : WsFix S) {i : Int32} (h : vp_in i 3) : aix S 50 (some 19) i = some (19, i.toNatClampNeg) := aix_some (Ws_at0 hF (a := 19) (sh := (50, 3)) (by omega) rfl) h
theorem ca20 {S : Sp} (hF : WsFix S) {i : Nat} (h : i < 3) : aix S 51 (some 20) (nI i) = some (20, i) := aix_nI (Ws_at0 hF (a := 20) (sh := (51, 3)) (by omega) rfl) h (by omega)
theorem cx20 {S : Sp} (hF : WsFix S) {i : Int32} (h : vp_in i 3) : aix S 51 (some 20) i = some (20, i.toNatClampNeg) := aix_some (Ws_at0 hF (a := 20) (sh := (51, 3)) (by omega) rfl) h
theorem ca21 {S : Sp} (hF : WsFix S) {i : Nat} (h : i < 3000) : aix S 50 (some 21) (nI i) = some (21, i) := aix_nI (Ws_at0 hF (a := 21) (sh := (50, 3000)) (by omega) rfl) h (by omega)
theorem cx21 {S : Sp} (hF : WsFix S) {i : Int32} (h : vp_in i 3000) : aix S 50 (some 21) i = some (21, i.toNatClampNeg) := aix_some (Ws_at0 hF (a := 21) (sh := (50, 3000)) (by omega) rfl) h
theorem ca22 {S : Sp} (hF : WsFix S) {i : Nat} (h : i < 3000) : aix S 50 (some 22) (nI i) = some (22, i) := aix_nI (Ws_at0 hF (a := 22) (sh := (50, 3000)) (by omega) rfl) h (by omega)
theorem cx22 {S : Sp} (hF : WsFix S) {i : Int32} (h : vp_in i 3000) : aix S 50 (some 22) i = some (22, i.toNatClampNeg) := aix_some (Ws_at0 hF (a := 22) (sh := (50, 3000)) (by omega) rfl) h
theorem ca23 {S : Sp} (hF : WsFix S) {i : Nat} (h : i < 3000) : aix S 50 (some 23) (nI i) = some (23, i) := aix_nI (Ws_at0 hF (a := 23) (sh := (50, 3000)) (by omega) rfl) h (by omega)
theorem cx23 {S : Sp} (hF : WsFix S) {i : Int32} (h : vp_in i 3000) : aix S 50 (some 23) i = some (23, i.toNatClampNeg) := aix_some (Ws_at0 hF (a := 23) (sh := (50, 3000)) (by omega) rfl) h
theorem ca24 {S : Sp} (hF : WsFix S) {i : Nat} (h : i < 3000) : aix S 50 (some 24) (nI i) = some (24, i) := aix_nI (Ws_at0 hF (a := 24) (sh := (50, 3000)) (by omega) rfl) h (by omega)
theorem cx24 {S : Sp} (hF : WsFix S) {i : Int32} (h : vp_in i 3000) : aix S 50 (some 24) i = some (24, i.toNatClampNeg) := aix_some (Ws_at0 hF (a := 24) (sh := (50, 3000)) (by omega) rfl) h
theorem ca25 {S : Sp} (hF : WsFix S) {i : Nat} (h : i < 5) : aix S 50 (some 25) (nI i) = some (25, i) := aix_nI (Ws_at0 hF (a := 25) (sh := (50, 5)) (by omega) rfl) h (by omega)
theorem cx25 {S : Sp} (hF : WsFix S) {i : Int32} (h : vp_in i 5) : aix S 50 (some 25) i = some (25, i.toNatClampNeg) := aix_some (Ws_at0 hF (a := 25) (sh := (50, 5)) (by omega) rfl) h
theorem ca26 {S : Sp} (hF : WsFix S) {i : Nat} (h : i < 5) : aix S 50 (some 26) (nI i) = some (26, i) := aix_nI (Ws_at0 hF (a := 26) (sh := (50, 5)) (by omega) rfl) h (by omega)
theorem cx26 {S : Sp} (hF : WsFix S) {i : Int32} (h : vp_in i 5) : aix S 50 (some 26) i = some (26, i.toNatClampNeg) := aix_some (Ws_at0 hF (a := 26) (sh := (50, 5)) (by omega) rfl) h
theorem ca27 {S : Sp} (hF : WsFix S) {i : Nat} (h : i < 19) : aix S 50 (some 27) (nI i) = some (27, i) := aix_nI (Ws_at0 hF (a := 27) (sh := (50, 19)) (by omega) rfl) h (by omega)
theorem cx27 {S : Sp} (hF : WsFix S) {i : Int32} (h : vp_in i 19) : aix S 50 (some 27) i = some (27, i.toNatClampNeg) := aix_some (Ws_at0 hF (a := 27) (sh := (50, 19)) (by omega) rfl) h
theorem cl_r {S : Sp} (hF : WsFix S) {t : Nat} (h : t < 5) : S.2.1 16 t = some (30 + t) := hF.2.2.2.2 t h
theorem cl_K {S : Sp} (hF : WsFix S) {t : Nat} (h : t < 5) : isK S 8 (some (30 + t)) = some (30 + t) := by
  refine isK_of (n := 0) ?_
  rw [hF.1 (30 + t) (by omega)]
  obtain rfl | rfl | rfl | rfl | rfl : t = 0 ∨ t = 1 ∨ t = 2 ∨ t = 3 ∨ t = 4 := by omega
  all_goals rfl
theorem cg_r {S : Sp} (hF : WsFix S) {j : Nat} (h : j < 4) : S.2.1 11 j = some (12 + j) := hF.2.2.1 j h
