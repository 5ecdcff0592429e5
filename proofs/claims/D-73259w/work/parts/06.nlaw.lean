/-! the law's own entry -/
set_option maxRecDepth 100000
abbrev cL_law : ByteArray := code
def dkwL_law_69 : List UInt8 := [132, 3, 6, 167, 248, 229, 4, 172]
abbrev dktL_law_69 : List UInt8 := dkwL_law_69 ++ []
def dkwL_law_68 : List UInt8 := [42, 29, 4, 96, 46, 182, 0, 235, 44, 42, 29, 4, 96, 46, 182, 0, 238, 159, 0, 5, 3, 172]
abbrev dktL_law_68 : List UInt8 := dkwL_law_68 ++ dktL_law_69
def dkwL_law_67 : List UInt8 := [43, 42, 29, 4, 96, 46, 182, 0, 231, 44, 42, 29, 4, 96, 46, 182, 0, 234, 159, 0, 28, 3, 172, 43]
abbrev dktL_law_67 : List UInt8 := dkwL_law_67 ++ dktL_law_68
def dkwL_law_66 : List UInt8 := [172, 43, 42, 29, 4, 96, 46, 182, 0, 227, 44, 42, 29, 4, 96, 46, 182, 0, 230, 159, 0, 51, 3, 172]
abbrev dktL_law_66 : List UInt8 := dkwL_law_66 ++ dktL_law_67
def dkwL_law_65 : List UInt8 := [182, 0, 219, 44, 182, 0, 222, 159, 0, 87, 3, 172, 43, 182, 0, 223, 44, 182, 0, 226, 159, 0, 74, 3]
abbrev dktL_law_65 : List UInt8 := dkwL_law_65 ++ dktL_law_66
def dkwL_law_64 : List UInt8 := [42, 29, 6, 96, 46, 42, 29, 7, 96, 46, 42, 29, 8, 96, 46, 182, 0, 218, 159, 0, 100, 3, 172, 43]
abbrev dktL_law_64 : List UInt8 := dkwL_law_64 ++ dktL_law_65
def dkwL_law_63 : List UInt8 := [42, 29, 7, 96, 46, 42, 29, 8, 96, 46, 182, 0, 215, 44, 42, 29, 4, 96, 46, 42, 29, 5, 96, 46]
abbrev dktL_law_63 : List UInt8 := dkwL_law_63 ++ dktL_law_64
def dkwL_law_62 : List UInt8 := [182, 0, 214, 159, 0, 163, 3, 172, 43, 42, 29, 4, 96, 46, 42, 29, 5, 96, 46, 42, 29, 6, 96, 46]
abbrev dktL_law_62 : List UInt8 := dkwL_law_62 ++ dktL_law_63
def dkwL_law_61 : List UInt8 := [29, 4, 96, 46, 42, 29, 5, 96, 46, 182, 0, 211, 44, 42, 29, 4, 96, 46, 42, 29, 5, 96, 46]
abbrev dktL_law_61 : List UInt8 := dkwL_law_61 ++ dktL_law_62
def dkwL_law_60 : List UInt8 := [182, 0, 207, 44, 42, 29, 4, 96, 46, 42, 29, 5, 96, 46, 182, 0, 210, 159, 0, 196, 3, 172, 43, 42]
abbrev dktL_law_60 : List UInt8 := dkwL_law_60 ++ dktL_law_61
def dkwL_law_59 : List UInt8 := [4, 96, 46, 182, 0, 206, 159, 0, 229, 3, 172, 43, 42, 29, 4, 96, 46, 42, 29, 5, 96, 46]
abbrev dktL_law_59 : List UInt8 := dkwL_law_59 ++ dktL_law_60
def dkwL_law_58 : List UInt8 := [29, 4, 96, 46, 182, 0, 202, 159, 0, 252, 3, 172, 43, 42, 29, 4, 96, 46, 182, 0, 203, 44, 42, 29]
abbrev dktL_law_58 : List UInt8 := dkwL_law_58 ++ dktL_law_59
def dkwL_law_57 : List UInt8 := [42, 29, 6, 96, 46, 182, 0, 198, 159, 1, 19, 3, 172, 43, 42, 29, 4, 96, 46, 182, 0, 199, 44, 42]
abbrev dktL_law_57 : List UInt8 := dkwL_law_57 ++ dktL_law_58
def dkwL_law_56 : List UInt8 := [42, 29, 5, 96, 46, 42, 29, 6, 96, 46, 182, 0, 195, 44, 42, 29, 4, 96, 46, 42, 29, 5, 96, 46]
abbrev dktL_law_56 : List UInt8 := dkwL_law_56 ++ dktL_law_57
def dkwL_law_55 : List UInt8 := [159, 1, 75, 3, 172, 43, 182, 0, 191, 44, 182, 0, 194, 159, 1, 62, 3, 172, 43, 42, 29, 4, 96, 46]
abbrev dktL_law_55 : List UInt8 := dkwL_law_55 ++ dktL_law_56
def dkwL_law_54 : List UInt8 := [159, 1, 98, 3, 172, 43, 42, 29, 4, 96, 46, 182, 0, 187, 44, 42, 29, 4, 96, 46, 182, 0, 190]
abbrev dktL_law_54 : List UInt8 := dkwL_law_54 ++ dktL_law_55
def dkwL_law_53 : List UInt8 := [159, 1, 121, 3, 172, 43, 42, 29, 4, 96, 46, 182, 0, 183, 44, 42, 29, 4, 96, 46, 182, 0, 186]
abbrev dktL_law_53 : List UInt8 := dkwL_law_53 ++ dktL_law_54
def dkwL_law_52 : List UInt8 := [42, 29, 5, 96, 46, 182, 0, 179, 44, 42, 29, 4, 96, 46, 42, 29, 5, 96, 46, 182, 0, 182]
abbrev dktL_law_52 : List UInt8 := dkwL_law_52 ++ dktL_law_53
def dkwL_law_51 : List UInt8 := [159, 1, 167, 3, 172, 43, 182, 0, 175, 44, 182, 0, 178, 159, 1, 154, 3, 172, 43, 42, 29, 4, 96, 46]
abbrev dktL_law_51 : List UInt8 := dkwL_law_51 ++ dktL_law_52
def dkwL_law_50 : List UInt8 := [96, 46, 42, 29, 5, 96, 46, 182, 0, 171, 44, 42, 29, 4, 96, 46, 42, 29, 5, 96, 46, 182, 0, 174]
abbrev dktL_law_50 : List UInt8 := dkwL_law_50 ++ dktL_law_51
def dkwL_law_49 : List UInt8 := [4, 96, 46, 182, 0, 167, 44, 42, 29, 4, 96, 46, 182, 0, 170, 159, 1, 200, 3, 172, 43, 42, 29, 4]
abbrev dktL_law_49 : List UInt8 := dkwL_law_49 ++ dktL_law_50
def dkwL_law_48 : List UInt8 := [29, 4, 96, 46, 182, 0, 163, 44, 42, 29, 4, 96, 46, 182, 0, 166, 159, 1, 223, 3, 172, 43, 42, 29]
abbrev dktL_law_48 : List UInt8 := dkwL_law_48 ++ dktL_law_49
def dkwL_law_47 : List UInt8 := [182, 0, 159, 44, 42, 29, 4, 96, 46, 42, 29, 5, 96, 46, 182, 0, 162, 159, 1, 246, 3, 172, 43, 42]
abbrev dktL_law_47 : List UInt8 := dkwL_law_47 ++ dktL_law_48
def dkwL_law_46 : List UInt8 := [4, 96, 46, 182, 0, 158, 159, 2, 23, 3, 172, 43, 42, 29, 4, 96, 46, 42, 29, 5, 96, 46]
abbrev dktL_law_46 : List UInt8 := dkwL_law_46 ++ dktL_law_47
def dkwL_law_45 : List UInt8 := [5, 96, 46, 182, 0, 154, 148, 153, 2, 46, 3, 172, 43, 42, 29, 4, 96, 46, 182, 0, 155, 44, 42, 29]
abbrev dktL_law_45 : List UInt8 := dkwL_law_45 ++ dktL_law_46
def dkwL_law_44 : List UInt8 := [3, 172, 43, 42, 29, 4, 96, 46, 42, 29, 5, 96, 46, 182, 0, 150, 44, 42, 29, 4, 96, 46, 42, 29]
abbrev dktL_law_44 : List UInt8 := dkwL_law_44 ++ dktL_law_45
def dkwL_law_43 : List UInt8 := [29, 5, 96, 46, 182, 0, 146, 44, 42, 29, 4, 96, 46, 42, 29, 5, 96, 46, 182, 0, 149, 159, 2, 80]
abbrev dktL_law_43 : List UInt8 := dkwL_law_43 ++ dktL_law_44
def dkwL_law_42 : List UInt8 := [29, 4, 96, 46, 42, 29, 5, 96, 46, 182, 0, 145, 159, 2, 113, 3, 172, 43, 42, 29, 4, 96, 46, 42]
abbrev dktL_law_42 : List UInt8 := dkwL_law_42 ++ dktL_law_43
def dkwL_law_41 : List UInt8 := [182, 0, 141, 159, 2, 146, 3, 172, 43, 42, 29, 4, 96, 46, 42, 29, 5, 96, 46, 182, 0, 142, 44, 42]
abbrev dktL_law_41 : List UInt8 := dkwL_law_41 ++ dktL_law_42
def dkwL_law_40 : List UInt8 := [29, 4, 96, 46, 42, 29, 5, 96, 46, 182, 0, 138, 44, 42, 29, 4, 96, 46, 42, 29, 5, 96, 46]
abbrev dktL_law_40 : List UInt8 := dkwL_law_40 ++ dktL_law_41
def dkwL_law_39 : List UInt8 := [182, 0, 134, 44, 42, 29, 4, 96, 46, 42, 29, 5, 96, 46, 182, 0, 137, 159, 2, 179, 3, 172, 43, 42]
abbrev dktL_law_39 : List UInt8 := dkwL_law_39 ++ dktL_law_40
def dkwL_law_38 : List UInt8 := [5, 96, 46, 182, 0, 133, 159, 2, 212, 3, 172, 43, 42, 29, 4, 96, 46, 42, 29, 5, 96, 46]
abbrev dktL_law_38 : List UInt8 := dkwL_law_38 ++ dktL_law_39
def dkwL_law_37 : List UInt8 := [3, 172, 43, 42, 29, 4, 96, 46, 42, 29, 5, 96, 46, 182, 0, 130, 44, 42, 29, 4, 96, 46, 42, 29]
abbrev dktL_law_37 : List UInt8 := dkwL_law_37 ++ dktL_law_38
def dkwL_law_36 : List UInt8 := [29, 5, 96, 46, 182, 0, 126, 44, 42, 29, 4, 96, 46, 42, 29, 5, 96, 46, 182, 0, 129, 159, 2, 245]
abbrev dktL_law_36 : List UInt8 := dkwL_law_36 ++ dktL_law_37
def dkwL_law_35 : List UInt8 := [29, 4, 96, 46, 42, 29, 5, 96, 46, 182, 0, 125, 159, 3, 22, 3, 172, 43, 42, 29, 4, 96, 46, 42]
abbrev dktL_law_35 : List UInt8 := dkwL_law_35 ++ dktL_law_36
def dkwL_law_34 : List UInt8 := [182, 0, 121, 159, 3, 55, 3, 172, 43, 42, 29, 4, 96, 46, 42, 29, 5, 96, 46, 182, 0, 122, 44, 42]
abbrev dktL_law_34 : List UInt8 := dkwL_law_34 ++ dktL_law_35
def dkwL_law_33 : List UInt8 := [42, 29, 4, 96, 46, 42, 29, 5, 96, 46, 182, 0, 118, 44, 42, 29, 4, 96, 46, 42, 29, 5, 96, 46]
abbrev dktL_law_33 : List UInt8 := dkwL_law_33 ++ dktL_law_34
def dkwL_law_32 : List UInt8 := [46, 182, 0, 114, 44, 42, 29, 4, 96, 46, 42, 29, 5, 96, 46, 182, 0, 117, 159, 3, 88, 3, 172, 43]
abbrev dktL_law_32 : List UInt8 := dkwL_law_32 ++ dktL_law_33
def dkwL_law_31 : List UInt8 := [46, 42, 29, 5, 96, 46, 182, 0, 113, 159, 3, 121, 3, 172, 43, 42, 29, 4, 96, 46, 42, 29, 5, 96]
abbrev dktL_law_31 : List UInt8 := dkwL_law_31 ++ dktL_law_32
def dkwL_law_30 : List UInt8 := [159, 3, 154, 3, 172, 43, 42, 29, 4, 96, 46, 42, 29, 5, 96, 46, 182, 0, 110, 44, 42, 29, 4, 96]
abbrev dktL_law_30 : List UInt8 := dkwL_law_30 ++ dktL_law_31
def dkwL_law_29 : List UInt8 := [46, 42, 29, 5, 96, 46, 182, 0, 106, 44, 42, 29, 4, 96, 46, 42, 29, 5, 96, 46, 182, 0, 109]
abbrev dktL_law_29 : List UInt8 := dkwL_law_29 ++ dktL_law_30
def dkwL_law_28 : List UInt8 := [96, 46, 182, 0, 102, 44, 42, 29, 4, 96, 46, 182, 0, 105, 159, 3, 187, 3, 172, 43, 42, 29, 4, 96]
abbrev dktL_law_28 : List UInt8 := dkwL_law_28 ++ dktL_law_29
def dkwL_law_27 : List UInt8 := [4, 96, 46, 182, 0, 98, 44, 42, 29, 4, 96, 46, 182, 0, 101, 159, 3, 210, 3, 172, 43, 42, 29, 4]
abbrev dktL_law_27 : List UInt8 := dkwL_law_27 ++ dktL_law_28
def dkwL_law_26 : List UInt8 := [182, 0, 93, 159, 3, 246, 3, 172, 43, 182, 0, 94, 44, 182, 0, 97, 159, 3, 233, 3, 172, 43, 42, 29]
abbrev dktL_law_26 : List UInt8 := dkwL_law_26 ++ dktL_law_27
def dkwL_law_25 : List UInt8 := [44, 42, 29, 4, 96, 46, 42, 29, 5, 96, 46, 182, 0, 89, 159, 4, 3, 3, 172, 43, 182, 0, 90, 44]
abbrev dktL_law_25 : List UInt8 := dkwL_law_25 ++ dktL_law_26
def dkwL_law_24 : List UInt8 := [96, 46, 182, 0, 85, 159, 4, 36, 3, 172, 43, 42, 29, 4, 96, 46, 42, 29, 5, 96, 46, 182, 0, 86]
abbrev dktL_law_24 : List UInt8 := dkwL_law_24 ++ dktL_law_25
def dkwL_law_23 : List UInt8 := [96, 46, 42, 29, 6, 96, 46, 182, 0, 82, 44, 42, 29, 4, 96, 46, 42, 29, 5, 96, 46, 42, 29, 6]
abbrev dktL_law_23 : List UInt8 := dkwL_law_23 ++ dktL_law_24
def dkwL_law_22 : List UInt8 := [96, 46, 42, 29, 6, 96, 46, 182, 0, 81, 159, 4, 79, 3, 172, 43, 42, 29, 4, 96, 46, 42, 29, 5]
abbrev dktL_law_22 : List UInt8 := dkwL_law_22 ++ dktL_law_23
def dkwL_law_21 : List UInt8 := [96, 46, 42, 29, 5, 96, 46, 42, 29, 6, 96, 46, 182, 0, 78, 44, 42, 29, 4, 96, 46, 42, 29, 5]
abbrev dktL_law_21 : List UInt8 := dkwL_law_21 ++ dktL_law_22
def dkwL_law_20 : List UInt8 := [4, 96, 46, 182, 0, 74, 44, 42, 29, 4, 96, 46, 182, 0, 77, 159, 4, 122, 3, 172, 43, 42, 29, 4]
abbrev dktL_law_20 : List UInt8 := dkwL_law_20 ++ dktL_law_21
def dkwL_law_19 : List UInt8 := [182, 0, 69, 159, 4, 158, 3, 172, 43, 182, 0, 70, 44, 182, 0, 73, 159, 4, 145, 3, 172, 43, 42, 29]
abbrev dktL_law_19 : List UInt8 := dkwL_law_19 ++ dktL_law_20
def dkwL_law_18 : List UInt8 := [46, 182, 0, 65, 159, 4, 181, 3, 172, 43, 42, 29, 4, 96, 46, 182, 0, 66, 44, 42, 29, 4, 96, 46]
abbrev dktL_law_18 : List UInt8 := dkwL_law_18 ++ dktL_law_19
def dkwL_law_17 : List UInt8 := [43, 42, 29, 4, 96, 46, 42, 29, 5, 96, 46, 182, 0, 62, 44, 42, 29, 4, 96, 46, 42, 29, 5, 96]
abbrev dktL_law_17 : List UInt8 := dkwL_law_17 ++ dktL_law_18
def dkwL_law_16 : List UInt8 := [172, 43, 42, 29, 4, 96, 46, 182, 0, 58, 44, 42, 29, 4, 96, 46, 182, 0, 61, 159, 4, 214, 3, 172]
abbrev dktL_law_16 : List UInt8 := dkwL_law_16 ++ dktL_law_17
def dkwL_law_15 : List UInt8 := [3, 172, 43, 42, 29, 4, 96, 46, 182, 0, 54, 44, 42, 29, 4, 96, 46, 182, 0, 57, 159, 4, 237, 3]
abbrev dktL_law_15 : List UInt8 := dkwL_law_15 ++ dktL_law_16
def dkwL_law_14 : List UInt8 := [29, 5, 96, 46, 182, 0, 50, 44, 42, 29, 4, 96, 46, 42, 29, 5, 96, 46, 182, 0, 53, 159, 5, 4]
abbrev dktL_law_14 : List UInt8 := dkwL_law_14 ++ dktL_law_15
def dkwL_law_13 : List UInt8 := [29, 4, 96, 46, 42, 29, 5, 96, 46, 182, 0, 49, 159, 5, 37, 3, 172, 43, 42, 29, 4, 96, 46, 42]
abbrev dktL_law_13 : List UInt8 := dkwL_law_13 ++ dktL_law_14
def dkwL_law_12 : List UInt8 := [182, 0, 45, 159, 5, 70, 3, 172, 43, 42, 29, 4, 96, 46, 42, 29, 5, 96, 46, 182, 0, 46, 44, 42]
abbrev dktL_law_12 : List UInt8 := dkwL_law_12 ++ dktL_law_13
def dkwL_law_11 : List UInt8 := [46, 182, 0, 41, 159, 5, 93, 3, 172, 43, 42, 29, 4, 96, 46, 182, 0, 42, 44, 42, 29, 4, 96, 46]
abbrev dktL_law_11 : List UInt8 := dkwL_law_11 ++ dktL_law_12
def dkwL_law_10 : List UInt8 := [46, 42, 29, 6, 96, 46, 182, 0, 37, 44, 42, 29, 4, 96, 46, 42, 29, 5, 96, 46, 42, 29, 6, 96]
abbrev dktL_law_10 : List UInt8 := dkwL_law_10 ++ dktL_law_11
def dkwL_law_9 : List UInt8 := [46, 42, 29, 5, 96, 46, 182, 0, 36, 159, 5, 136, 3, 172, 43, 42, 29, 4, 96, 46, 42, 29, 5, 96]
abbrev dktL_law_9 : List UInt8 := dkwL_law_9 ++ dktL_law_10
def dkwL_law_8 : List UInt8 := [159, 5, 169, 3, 172, 43, 42, 29, 4, 96, 46, 42, 29, 5, 96, 46, 182, 0, 32, 44, 42, 29, 4, 96]
abbrev dktL_law_8 : List UInt8 := dkwL_law_8 ++ dktL_law_9
def dkwL_law_7 : List UInt8 := [159, 5, 192, 3, 172, 43, 42, 29, 4, 96, 46, 182, 0, 28, 44, 42, 29, 4, 96, 46, 182, 0, 31]
abbrev dktL_law_7 : List UInt8 := dkwL_law_7 ++ dktL_law_8
def dkwL_law_6 : List UInt8 := [44, 42, 29, 4, 96, 46, 182, 0, 22, 159, 5, 205, 3, 172, 43, 182, 0, 23, 44, 182, 0, 27]
abbrev dktL_law_6 : List UInt8 := dkwL_law_6 ++ dktL_law_7
def dkwL_law_5 : List UInt8 := [96, 46, 42, 29, 8, 96, 46, 182, 0, 17, 159, 5, 228, 3, 172, 43, 42, 29, 4, 96, 46, 182, 0, 18]
abbrev dktL_law_5 : List UInt8 := dkwL_law_5 ++ dktL_law_6
def dkwL_law_4 : List UInt8 := [96, 46, 182, 0, 13, 44, 42, 29, 4, 96, 46, 42, 29, 5, 96, 46, 42, 29, 6, 96, 46, 42, 29, 7]
abbrev dktL_law_4 : List UInt8 := dkwL_law_4 ++ dktL_law_5
def dkwL_law_3 : List UInt8 := [43, 42, 29, 4, 96, 46, 42, 29, 5, 96, 46, 42, 29, 6, 96, 46, 42, 29, 7, 96, 46, 42, 29, 8]
abbrev dktL_law_3 : List UInt8 := dkwL_law_3 ++ dktL_law_4
def dkwL_law_2 : List UInt8 := [170, 0, 0, 0, 0, 7, 9, 0, 0, 0, 0, 0, 0, 0, 54, 0, 0, 0, 235, 0, 0, 1, 42, 0, 0, 1, 65, 0, 0, 1, 78, 0, 0, 1, 101, 0, 0, 1, 134, 0, 0, 1, 177, 0, 0, 1, 200, 0, 0, 1, 233, 0, 0, 2, 10, 0, 0, 2, 33, 0, 0, 2, 56, 0, 0, 2, 89, 0, 0, 2, 112, 0, 0, 2, 125, 0, 0, 2, 148, 0, 0, 2, 191, 0, 0, 2, 234, 0, 0, 3, 11, 0, 0, 3, 24, 0, 0, 3, 37, 0, 0, 3, 60, 0, 0, 3, 83, 0, 0, 3, 116, 0, 0, 3, 149, 0, 0, 3, 182, 0, 0, 3, 215, 0, 0, 3, 248, 0, 0, 4, 25, 0, 0, 4, 58, 0, 0, 4, 91, 0, 0, 4, 124, 0, 0, 4, 157, 0, 0, 4, 190, 0, 0, 4, 224, 0, 0, 4, 247, 0, 0, 5, 24, 0, 0, 5, 47, 0, 0, 5, 70, 0, 0, 5, 103, 0, 0, 5, 116, 0, 0, 5, 149, 0, 0, 5, 172, 0, 0, 5, 195, 0, 0, 5, 208, 0, 0, 5, 251, 0, 0, 6, 18, 0, 0, 6, 41, 0, 0, 6, 74, 0, 0, 6, 107, 0, 0, 6, 170, 0, 0, 6, 183, 0, 0, 6, 196, 0, 0, 6, 219, 0, 0, 6, 242]
abbrev dktL_law_2 : List UInt8 := dkwL_law_2 ++ dktL_law_3
def dkwL_law_1 : List UInt8 := [163, 7, 24, 42, 29, 46, 16, 63, 126]
abbrev dktL_law_1 : List UInt8 := dkwL_law_1 ++ dktL_law_2
def dkwL_law_0 : List UInt8 := [187, 0, 7, 89, 183, 0, 9, 76, 187, 0, 10, 89, 183, 0, 12, 77, 3, 62, 29, 42, 190, 16, 6, 100]
abbrev dktL_law_0 : List UInt8 := dkwL_law_0 ++ dktL_law_1
theorem dksL_law_0 : cL_law.data.toList.drop 0 = dktL_law_0 := by decide +kernel
theorem dksL_law_1 : cL_law.data.toList.drop 24 = dktL_law_1 := dk_seg dksL_law_0 24 rfl rfl
theorem dksL_law_2 : cL_law.data.toList.drop 33 = dktL_law_2 := dk_seg dksL_law_1 9 rfl rfl
theorem dksL_law_3 : cL_law.data.toList.drop 268 = dktL_law_3 := dk_seg dksL_law_2 235 rfl rfl
theorem dksL_law_4 : cL_law.data.toList.drop 292 = dktL_law_4 := dk_seg dksL_law_3 24 rfl rfl
theorem dksL_law_5 : cL_law.data.toList.drop 316 = dktL_law_5 := dk_seg dksL_law_4 24 rfl rfl
theorem dksL_law_6 : cL_law.data.toList.drop 340 = dktL_law_6 := dk_seg dksL_law_5 24 rfl rfl
theorem dksL_law_7 : cL_law.data.toList.drop 362 = dktL_law_7 := dk_seg dksL_law_6 22 rfl rfl
theorem dksL_law_8 : cL_law.data.toList.drop 385 = dktL_law_8 := dk_seg dksL_law_7 23 rfl rfl
theorem dksL_law_9 : cL_law.data.toList.drop 409 = dktL_law_9 := dk_seg dksL_law_8 24 rfl rfl
theorem dksL_law_10 : cL_law.data.toList.drop 433 = dktL_law_10 := dk_seg dksL_law_9 24 rfl rfl
theorem dksL_law_11 : cL_law.data.toList.drop 457 = dktL_law_11 := dk_seg dksL_law_10 24 rfl rfl
theorem dksL_law_12 : cL_law.data.toList.drop 481 = dktL_law_12 := dk_seg dksL_law_11 24 rfl rfl
theorem dksL_law_13 : cL_law.data.toList.drop 505 = dktL_law_13 := dk_seg dksL_law_12 24 rfl rfl
theorem dksL_law_14 : cL_law.data.toList.drop 529 = dktL_law_14 := dk_seg dksL_law_13 24 rfl rfl
theorem dksL_law_15 : cL_law.data.toList.drop 553 = dktL_law_15 := dk_seg dksL_law_14 24 rfl rfl
theorem dksL_law_16 : cL_law.data.toList.drop 577 = dktL_law_16 := dk_seg dksL_law_15 24 rfl rfl
theorem dksL_law_17 : cL_law.data.toList.drop 601 = dktL_law_17 := dk_seg dksL_law_16 24 rfl rfl
theorem dksL_law_18 : cL_law.data.toList.drop 625 = dktL_law_18 := dk_seg dksL_law_17 24 rfl rfl
theorem dksL_law_19 : cL_law.data.toList.drop 649 = dktL_law_19 := dk_seg dksL_law_18 24 rfl rfl
theorem dksL_law_20 : cL_law.data.toList.drop 673 = dktL_law_20 := dk_seg dksL_law_19 24 rfl rfl
theorem dksL_law_21 : cL_law.data.toList.drop 697 = dktL_law_21 := dk_seg dksL_law_20 24 rfl rfl
theorem dksL_law_22 : cL_law.data.toList.drop 721 = dktL_law_22 := dk_seg dksL_law_21 24 rfl rfl
theorem dksL_law_23 : cL_law.data.toList.drop 745 = dktL_law_23 := dk_seg dksL_law_22 24 rfl rfl
theorem dksL_law_24 : cL_law.data.toList.drop 769 = dktL_law_24 := dk_seg dksL_law_23 24 rfl rfl
theorem dksL_law_25 : cL_law.data.toList.drop 793 = dktL_law_25 := dk_seg dksL_law_24 24 rfl rfl
theorem dksL_law_26 : cL_law.data.toList.drop 817 = dktL_law_26 := dk_seg dksL_law_25 24 rfl rfl
theorem dksL_law_27 : cL_law.data.toList.drop 841 = dktL_law_27 := dk_seg dksL_law_26 24 rfl rfl
theorem dksL_law_28 : cL_law.data.toList.drop 865 = dktL_law_28 := dk_seg dksL_law_27 24 rfl rfl
theorem dksL_law_29 : cL_law.data.toList.drop 889 = dktL_law_29 := dk_seg dksL_law_28 24 rfl rfl
theorem dksL_law_30 : cL_law.data.toList.drop 912 = dktL_law_30 := dk_seg dksL_law_29 23 rfl rfl
theorem dksL_law_31 : cL_law.data.toList.drop 936 = dktL_law_31 := dk_seg dksL_law_30 24 rfl rfl
theorem dksL_law_32 : cL_law.data.toList.drop 960 = dktL_law_32 := dk_seg dksL_law_31 24 rfl rfl
theorem dksL_law_33 : cL_law.data.toList.drop 984 = dktL_law_33 := dk_seg dksL_law_32 24 rfl rfl
theorem dksL_law_34 : cL_law.data.toList.drop 1008 = dktL_law_34 := dk_seg dksL_law_33 24 rfl rfl
theorem dksL_law_35 : cL_law.data.toList.drop 1032 = dktL_law_35 := dk_seg dksL_law_34 24 rfl rfl
theorem dksL_law_36 : cL_law.data.toList.drop 1056 = dktL_law_36 := dk_seg dksL_law_35 24 rfl rfl
theorem dksL_law_37 : cL_law.data.toList.drop 1080 = dktL_law_37 := dk_seg dksL_law_36 24 rfl rfl
theorem dksL_law_38 : cL_law.data.toList.drop 1104 = dktL_law_38 := dk_seg dksL_law_37 24 rfl rfl
theorem dksL_law_39 : cL_law.data.toList.drop 1126 = dktL_law_39 := dk_seg dksL_law_38 22 rfl rfl
theorem dksL_law_40 : cL_law.data.toList.drop 1150 = dktL_law_40 := dk_seg dksL_law_39 24 rfl rfl
theorem dksL_law_41 : cL_law.data.toList.drop 1173 = dktL_law_41 := dk_seg dksL_law_40 23 rfl rfl
theorem dksL_law_42 : cL_law.data.toList.drop 1197 = dktL_law_42 := dk_seg dksL_law_41 24 rfl rfl
theorem dksL_law_43 : cL_law.data.toList.drop 1221 = dktL_law_43 := dk_seg dksL_law_42 24 rfl rfl
theorem dksL_law_44 : cL_law.data.toList.drop 1245 = dktL_law_44 := dk_seg dksL_law_43 24 rfl rfl
theorem dksL_law_45 : cL_law.data.toList.drop 1269 = dktL_law_45 := dk_seg dksL_law_44 24 rfl rfl
theorem dksL_law_46 : cL_law.data.toList.drop 1293 = dktL_law_46 := dk_seg dksL_law_45 24 rfl rfl
theorem dksL_law_47 : cL_law.data.toList.drop 1315 = dktL_law_47 := dk_seg dksL_law_46 22 rfl rfl
theorem dksL_law_48 : cL_law.data.toList.drop 1339 = dktL_law_48 := dk_seg dksL_law_47 24 rfl rfl
theorem dksL_law_49 : cL_law.data.toList.drop 1363 = dktL_law_49 := dk_seg dksL_law_48 24 rfl rfl
theorem dksL_law_50 : cL_law.data.toList.drop 1387 = dktL_law_50 := dk_seg dksL_law_49 24 rfl rfl
theorem dksL_law_51 : cL_law.data.toList.drop 1411 = dktL_law_51 := dk_seg dksL_law_50 24 rfl rfl
theorem dksL_law_52 : cL_law.data.toList.drop 1435 = dktL_law_52 := dk_seg dksL_law_51 24 rfl rfl
theorem dksL_law_53 : cL_law.data.toList.drop 1457 = dktL_law_53 := dk_seg dksL_law_52 22 rfl rfl
theorem dksL_law_54 : cL_law.data.toList.drop 1480 = dktL_law_54 := dk_seg dksL_law_53 23 rfl rfl
theorem dksL_law_55 : cL_law.data.toList.drop 1503 = dktL_law_55 := dk_seg dksL_law_54 23 rfl rfl
theorem dksL_law_56 : cL_law.data.toList.drop 1527 = dktL_law_56 := dk_seg dksL_law_55 24 rfl rfl
theorem dksL_law_57 : cL_law.data.toList.drop 1551 = dktL_law_57 := dk_seg dksL_law_56 24 rfl rfl
theorem dksL_law_58 : cL_law.data.toList.drop 1575 = dktL_law_58 := dk_seg dksL_law_57 24 rfl rfl
theorem dksL_law_59 : cL_law.data.toList.drop 1599 = dktL_law_59 := dk_seg dksL_law_58 24 rfl rfl
theorem dksL_law_60 : cL_law.data.toList.drop 1621 = dktL_law_60 := dk_seg dksL_law_59 22 rfl rfl
theorem dksL_law_61 : cL_law.data.toList.drop 1645 = dktL_law_61 := dk_seg dksL_law_60 24 rfl rfl
theorem dksL_law_62 : cL_law.data.toList.drop 1668 = dktL_law_62 := dk_seg dksL_law_61 23 rfl rfl
theorem dksL_law_63 : cL_law.data.toList.drop 1692 = dktL_law_63 := dk_seg dksL_law_62 24 rfl rfl
theorem dksL_law_64 : cL_law.data.toList.drop 1716 = dktL_law_64 := dk_seg dksL_law_63 24 rfl rfl
theorem dksL_law_65 : cL_law.data.toList.drop 1740 = dktL_law_65 := dk_seg dksL_law_64 24 rfl rfl
theorem dksL_law_66 : cL_law.data.toList.drop 1764 = dktL_law_66 := dk_seg dksL_law_65 24 rfl rfl
theorem dksL_law_67 : cL_law.data.toList.drop 1788 = dktL_law_67 := dk_seg dksL_law_66 24 rfl rfl
theorem dksL_law_68 : cL_law.data.toList.drop 1812 = dktL_law_68 := dk_seg dksL_law_67 24 rfl rfl
theorem dksL_law_69 : cL_law.data.toList.drop 1834 = dktL_law_69 := dk_seg dksL_law_68 22 rfl rfl
theorem dL_law_0 : decode cL_law 0 = .ok (.new 7, 3) := dk_187 0 7 (dk_at dksL_law_0 0 rfl rfl)
theorem dL_law_3 : decode cL_law 3 = .ok (.dup, 1) := dk_89 (dk_at dksL_law_0 3 rfl rfl)
theorem dL_law_4 : decode cL_law 4 = .ok (.invokespecial 9, 3) := dk_183 0 9 (dk_at dksL_law_0 4 rfl rfl)
theorem dL_law_7 : decode cL_law 7 = .ok (.astore_n 1, 1) := dk_76 (dk_at dksL_law_0 7 rfl rfl)
theorem dL_law_8 : decode cL_law 8 = .ok (.new 10, 3) := dk_187 0 10 (dk_at dksL_law_0 8 rfl rfl)
theorem dL_law_11 : decode cL_law 11 = .ok (.dup, 1) := dk_89 (dk_at dksL_law_0 11 rfl rfl)
theorem dL_law_12 : decode cL_law 12 = .ok (.invokespecial 12, 3) := dk_183 0 12 (dk_at dksL_law_0 12 rfl rfl)
theorem dL_law_15 : decode cL_law 15 = .ok (.astore_n 2, 1) := dk_77 (dk_at dksL_law_0 15 rfl rfl)
theorem dL_law_16 : decode cL_law 16 = .ok (.iconst 0, 1) := dk_3 (dk_at dksL_law_0 16 rfl rfl)
theorem dL_law_17 : decode cL_law 17 = .ok (.istore_n 3, 1) := dk_62 (dk_at dksL_law_0 17 rfl rfl)
theorem dL_law_18 : decode cL_law 18 = .ok (.iload_n 3, 1) := dk_29 (dk_at dksL_law_0 18 rfl rfl)
theorem dL_law_19 : decode cL_law 19 = .ok (.aload_n 0, 1) := dk_42 (dk_at dksL_law_0 19 rfl rfl)
theorem dL_law_20 : decode cL_law 20 = .ok (.arraylength, 1) := dk_190 (dk_at dksL_law_0 20 rfl rfl)
theorem dL_law_21 : decode cL_law 21 = .ok (.bipush 6, 2) := dk_16 6 (dk_at dksL_law_0 21 rfl rfl)
theorem dL_law_23 : decode cL_law 23 = .ok (.isub, 1) := dk_100 (dk_at dksL_law_0 23 rfl rfl)
theorem dL_law_24 : decode cL_law 24 = .ok (.if_icmp .gt 1816, 3) := dk_163 7 24 (dk_at dksL_law_1 0 rfl rfl)
theorem dL_law_27 : decode cL_law 27 = .ok (.aload_n 0, 1) := dk_42 (dk_at dksL_law_1 3 rfl rfl)
theorem dL_law_28 : decode cL_law 28 = .ok (.iload_n 3, 1) := dk_29 (dk_at dksL_law_1 4 rfl rfl)
theorem dL_law_29 : decode cL_law 29 = .ok (.iaload, 1) := dk_46 (dk_at dksL_law_1 5 rfl rfl)
theorem dL_law_30 : decode cL_law 30 = .ok (.bipush 63, 2) := dk_16 63 (dk_at dksL_law_1 6 rfl rfl)
theorem dL_law_32 : decode cL_law 32 = .ok (.iand, 1) := dk_126 (dk_at dksL_law_1 8 rfl rfl)
theorem dL_law_33 : decode cL_law 33 = .ok (.tableswitch 1801 0 54 #[235, 298, 321, 334, 357, 390, 433, 456, 489, 522, 545, 568, 601, 624, 637, 660, 703, 746, 779, 792, 805, 828, 851, 884, 917, 950, 983, 1016, 1049, 1082, 1115, 1148, 1181, 1214, 1248, 1271, 1304, 1327, 1350, 1383, 1396, 1429, 1452, 1475, 1488, 1531, 1554, 1577, 1610, 1643, 1706, 1719, 1732, 1755, 1778], 235) := by decide +kernel
theorem dL_law_268 : decode cL_law 268 = .ok (.aload_n 1, 1) := dk_43 (dk_at dksL_law_3 0 rfl rfl)
theorem dL_law_269 : decode cL_law 269 = .ok (.aload_n 0, 1) := dk_42 (dk_at dksL_law_3 1 rfl rfl)
theorem dL_law_270 : decode cL_law 270 = .ok (.iload_n 3, 1) := dk_29 (dk_at dksL_law_3 2 rfl rfl)
theorem dL_law_271 : decode cL_law 271 = .ok (.iconst 1, 1) := dk_4 (dk_at dksL_law_3 3 rfl rfl)
theorem dL_law_272 : decode cL_law 272 = .ok (.iadd, 1) := dk_96 (dk_at dksL_law_3 4 rfl rfl)
theorem dL_law_273 : decode cL_law 273 = .ok (.iaload, 1) := dk_46 (dk_at dksL_law_3 5 rfl rfl)
theorem dL_law_274 : decode cL_law 274 = .ok (.aload_n 0, 1) := dk_42 (dk_at dksL_law_3 6 rfl rfl)
theorem dL_law_275 : decode cL_law 275 = .ok (.iload_n 3, 1) := dk_29 (dk_at dksL_law_3 7 rfl rfl)
theorem dL_law_276 : decode cL_law 276 = .ok (.iconst 2, 1) := dk_5 (dk_at dksL_law_3 8 rfl rfl)
theorem dL_law_277 : decode cL_law 277 = .ok (.iadd, 1) := dk_96 (dk_at dksL_law_3 9 rfl rfl)
theorem dL_law_278 : decode cL_law 278 = .ok (.iaload, 1) := dk_46 (dk_at dksL_law_3 10 rfl rfl)
theorem dL_law_279 : decode cL_law 279 = .ok (.aload_n 0, 1) := dk_42 (dk_at dksL_law_3 11 rfl rfl)
theorem dL_law_280 : decode cL_law 280 = .ok (.iload_n 3, 1) := dk_29 (dk_at dksL_law_3 12 rfl rfl)
theorem dL_law_281 : decode cL_law 281 = .ok (.iconst 3, 1) := dk_6 (dk_at dksL_law_3 13 rfl rfl)
theorem dL_law_282 : decode cL_law 282 = .ok (.iadd, 1) := dk_96 (dk_at dksL_law_3 14 rfl rfl)
theorem dL_law_283 : decode cL_law 283 = .ok (.iaload, 1) := dk_46 (dk_at dksL_law_3 15 rfl rfl)
theorem dL_law_284 : decode cL_law 284 = .ok (.aload_n 0, 1) := dk_42 (dk_at dksL_law_3 16 rfl rfl)
theorem dL_law_285 : decode cL_law 285 = .ok (.iload_n 3, 1) := dk_29 (dk_at dksL_law_3 17 rfl rfl)
theorem dL_law_286 : decode cL_law 286 = .ok (.iconst 4, 1) := dk_7 (dk_at dksL_law_3 18 rfl rfl)
theorem dL_law_287 : decode cL_law 287 = .ok (.iadd, 1) := dk_96 (dk_at dksL_law_3 19 rfl rfl)
theorem dL_law_288 : decode cL_law 288 = .ok (.iaload, 1) := dk_46 (dk_at dksL_law_3 20 rfl rfl)
theorem dL_law_289 : decode cL_law 289 = .ok (.aload_n 0, 1) := dk_42 (dk_at dksL_law_3 21 rfl rfl)
theorem dL_law_290 : decode cL_law 290 = .ok (.iload_n 3, 1) := dk_29 (dk_at dksL_law_3 22 rfl rfl)
theorem dL_law_291 : decode cL_law 291 = .ok (.iconst 5, 1) := dk_8 (dk_at dksL_law_3 23 rfl rfl)
theorem dL_law_292 : decode cL_law 292 = .ok (.iadd, 1) := dk_96 (dk_at dksL_law_4 0 rfl rfl)
theorem dL_law_293 : decode cL_law 293 = .ok (.iaload, 1) := dk_46 (dk_at dksL_law_4 1 rfl rfl)
theorem dL_law_294 : decode cL_law 294 = .ok (.invokevirtual 13, 3) := dk_182 0 13 (dk_at dksL_law_4 2 rfl rfl)
theorem dL_law_297 : decode cL_law 297 = .ok (.aload_n 2, 1) := dk_44 (dk_at dksL_law_4 5 rfl rfl)
theorem dL_law_298 : decode cL_law 298 = .ok (.aload_n 0, 1) := dk_42 (dk_at dksL_law_4 6 rfl rfl)
theorem dL_law_299 : decode cL_law 299 = .ok (.iload_n 3, 1) := dk_29 (dk_at dksL_law_4 7 rfl rfl)
theorem dL_law_300 : decode cL_law 300 = .ok (.iconst 1, 1) := dk_4 (dk_at dksL_law_4 8 rfl rfl)
theorem dL_law_301 : decode cL_law 301 = .ok (.iadd, 1) := dk_96 (dk_at dksL_law_4 9 rfl rfl)
theorem dL_law_302 : decode cL_law 302 = .ok (.iaload, 1) := dk_46 (dk_at dksL_law_4 10 rfl rfl)
theorem dL_law_303 : decode cL_law 303 = .ok (.aload_n 0, 1) := dk_42 (dk_at dksL_law_4 11 rfl rfl)
theorem dL_law_304 : decode cL_law 304 = .ok (.iload_n 3, 1) := dk_29 (dk_at dksL_law_4 12 rfl rfl)
theorem dL_law_305 : decode cL_law 305 = .ok (.iconst 2, 1) := dk_5 (dk_at dksL_law_4 13 rfl rfl)
theorem dL_law_306 : decode cL_law 306 = .ok (.iadd, 1) := dk_96 (dk_at dksL_law_4 14 rfl rfl)
theorem dL_law_307 : decode cL_law 307 = .ok (.iaload, 1) := dk_46 (dk_at dksL_law_4 15 rfl rfl)
theorem dL_law_308 : decode cL_law 308 = .ok (.aload_n 0, 1) := dk_42 (dk_at dksL_law_4 16 rfl rfl)
theorem dL_law_309 : decode cL_law 309 = .ok (.iload_n 3, 1) := dk_29 (dk_at dksL_law_4 17 rfl rfl)
theorem dL_law_310 : decode cL_law 310 = .ok (.iconst 3, 1) := dk_6 (dk_at dksL_law_4 18 rfl rfl)
theorem dL_law_311 : decode cL_law 311 = .ok (.iadd, 1) := dk_96 (dk_at dksL_law_4 19 rfl rfl)
theorem dL_law_312 : decode cL_law 312 = .ok (.iaload, 1) := dk_46 (dk_at dksL_law_4 20 rfl rfl)
theorem dL_law_313 : decode cL_law 313 = .ok (.aload_n 0, 1) := dk_42 (dk_at dksL_law_4 21 rfl rfl)
theorem dL_law_314 : decode cL_law 314 = .ok (.iload_n 3, 1) := dk_29 (dk_at dksL_law_4 22 rfl rfl)
theorem dL_law_315 : decode cL_law 315 = .ok (.iconst 4, 1) := dk_7 (dk_at dksL_law_4 23 rfl rfl)
theorem dL_law_316 : decode cL_law 316 = .ok (.iadd, 1) := dk_96 (dk_at dksL_law_5 0 rfl rfl)
theorem dL_law_317 : decode cL_law 317 = .ok (.iaload, 1) := dk_46 (dk_at dksL_law_5 1 rfl rfl)
theorem dL_law_318 : decode cL_law 318 = .ok (.aload_n 0, 1) := dk_42 (dk_at dksL_law_5 2 rfl rfl)
theorem dL_law_319 : decode cL_law 319 = .ok (.iload_n 3, 1) := dk_29 (dk_at dksL_law_5 3 rfl rfl)
theorem dL_law_320 : decode cL_law 320 = .ok (.iconst 5, 1) := dk_8 (dk_at dksL_law_5 4 rfl rfl)
theorem dL_law_321 : decode cL_law 321 = .ok (.iadd, 1) := dk_96 (dk_at dksL_law_5 5 rfl rfl)
theorem dL_law_322 : decode cL_law 322 = .ok (.iaload, 1) := dk_46 (dk_at dksL_law_5 6 rfl rfl)
theorem dL_law_323 : decode cL_law 323 = .ok (.invokevirtual 17, 3) := dk_182 0 17 (dk_at dksL_law_5 7 rfl rfl)
theorem dL_law_326 : decode cL_law 326 = .ok (.if_icmp .eq 1508, 3) := dk_159 5 228 (dk_at dksL_law_5 10 rfl rfl)
theorem dL_law_329 : decode cL_law 329 = .ok (.iconst 0, 1) := dk_3 (dk_at dksL_law_5 13 rfl rfl)
theorem dL_law_330 : decode cL_law 330 = .ok (.ireturn, 1) := dk_172 (dk_at dksL_law_5 14 rfl rfl)
theorem dL_law_331 : decode cL_law 331 = .ok (.aload_n 1, 1) := dk_43 (dk_at dksL_law_5 15 rfl rfl)
theorem dL_law_332 : decode cL_law 332 = .ok (.aload_n 0, 1) := dk_42 (dk_at dksL_law_5 16 rfl rfl)
theorem dL_law_333 : decode cL_law 333 = .ok (.iload_n 3, 1) := dk_29 (dk_at dksL_law_5 17 rfl rfl)
theorem dL_law_334 : decode cL_law 334 = .ok (.iconst 1, 1) := dk_4 (dk_at dksL_law_5 18 rfl rfl)
theorem dL_law_335 : decode cL_law 335 = .ok (.iadd, 1) := dk_96 (dk_at dksL_law_5 19 rfl rfl)
theorem dL_law_336 : decode cL_law 336 = .ok (.iaload, 1) := dk_46 (dk_at dksL_law_5 20 rfl rfl)
theorem dL_law_337 : decode cL_law 337 = .ok (.invokevirtual 18, 3) := dk_182 0 18 (dk_at dksL_law_5 21 rfl rfl)
theorem dL_law_340 : decode cL_law 340 = .ok (.aload_n 2, 1) := dk_44 (dk_at dksL_law_6 0 rfl rfl)
theorem dL_law_341 : decode cL_law 341 = .ok (.aload_n 0, 1) := dk_42 (dk_at dksL_law_6 1 rfl rfl)
theorem dL_law_342 : decode cL_law 342 = .ok (.iload_n 3, 1) := dk_29 (dk_at dksL_law_6 2 rfl rfl)
theorem dL_law_343 : decode cL_law 343 = .ok (.iconst 1, 1) := dk_4 (dk_at dksL_law_6 3 rfl rfl)
theorem dL_law_344 : decode cL_law 344 = .ok (.iadd, 1) := dk_96 (dk_at dksL_law_6 4 rfl rfl)
theorem dL_law_345 : decode cL_law 345 = .ok (.iaload, 1) := dk_46 (dk_at dksL_law_6 5 rfl rfl)
theorem dL_law_346 : decode cL_law 346 = .ok (.invokevirtual 22, 3) := dk_182 0 22 (dk_at dksL_law_6 6 rfl rfl)
theorem dL_law_349 : decode cL_law 349 = .ok (.if_icmp .eq 1485, 3) := dk_159 5 205 (dk_at dksL_law_6 9 rfl rfl)
theorem dL_law_352 : decode cL_law 352 = .ok (.iconst 0, 1) := dk_3 (dk_at dksL_law_6 12 rfl rfl)
theorem dL_law_353 : decode cL_law 353 = .ok (.ireturn, 1) := dk_172 (dk_at dksL_law_6 13 rfl rfl)
theorem dL_law_354 : decode cL_law 354 = .ok (.aload_n 1, 1) := dk_43 (dk_at dksL_law_6 14 rfl rfl)
theorem dL_law_355 : decode cL_law 355 = .ok (.invokevirtual 23, 3) := dk_182 0 23 (dk_at dksL_law_6 15 rfl rfl)
theorem dL_law_358 : decode cL_law 358 = .ok (.aload_n 2, 1) := dk_44 (dk_at dksL_law_6 18 rfl rfl)
theorem dL_law_359 : decode cL_law 359 = .ok (.invokevirtual 27, 3) := dk_182 0 27 (dk_at dksL_law_6 19 rfl rfl)
theorem dL_law_362 : decode cL_law 362 = .ok (.if_icmp .eq 1472, 3) := dk_159 5 192 (dk_at dksL_law_7 0 rfl rfl)
theorem dL_law_365 : decode cL_law 365 = .ok (.iconst 0, 1) := dk_3 (dk_at dksL_law_7 3 rfl rfl)
theorem dL_law_366 : decode cL_law 366 = .ok (.ireturn, 1) := dk_172 (dk_at dksL_law_7 4 rfl rfl)
theorem dL_law_367 : decode cL_law 367 = .ok (.aload_n 1, 1) := dk_43 (dk_at dksL_law_7 5 rfl rfl)
theorem dL_law_368 : decode cL_law 368 = .ok (.aload_n 0, 1) := dk_42 (dk_at dksL_law_7 6 rfl rfl)
theorem dL_law_369 : decode cL_law 369 = .ok (.iload_n 3, 1) := dk_29 (dk_at dksL_law_7 7 rfl rfl)
theorem dL_law_370 : decode cL_law 370 = .ok (.iconst 1, 1) := dk_4 (dk_at dksL_law_7 8 rfl rfl)
theorem dL_law_371 : decode cL_law 371 = .ok (.iadd, 1) := dk_96 (dk_at dksL_law_7 9 rfl rfl)
theorem dL_law_372 : decode cL_law 372 = .ok (.iaload, 1) := dk_46 (dk_at dksL_law_7 10 rfl rfl)
theorem dL_law_373 : decode cL_law 373 = .ok (.invokevirtual 28, 3) := dk_182 0 28 (dk_at dksL_law_7 11 rfl rfl)
theorem dL_law_376 : decode cL_law 376 = .ok (.aload_n 2, 1) := dk_44 (dk_at dksL_law_7 14 rfl rfl)
theorem dL_law_377 : decode cL_law 377 = .ok (.aload_n 0, 1) := dk_42 (dk_at dksL_law_7 15 rfl rfl)
theorem dL_law_378 : decode cL_law 378 = .ok (.iload_n 3, 1) := dk_29 (dk_at dksL_law_7 16 rfl rfl)
theorem dL_law_379 : decode cL_law 379 = .ok (.iconst 1, 1) := dk_4 (dk_at dksL_law_7 17 rfl rfl)
theorem dL_law_380 : decode cL_law 380 = .ok (.iadd, 1) := dk_96 (dk_at dksL_law_7 18 rfl rfl)
theorem dL_law_381 : decode cL_law 381 = .ok (.iaload, 1) := dk_46 (dk_at dksL_law_7 19 rfl rfl)
theorem dL_law_382 : decode cL_law 382 = .ok (.invokevirtual 31, 3) := dk_182 0 31 (dk_at dksL_law_7 20 rfl rfl)
theorem dL_law_385 : decode cL_law 385 = .ok (.if_icmp .eq 1449, 3) := dk_159 5 169 (dk_at dksL_law_8 0 rfl rfl)
theorem dL_law_388 : decode cL_law 388 = .ok (.iconst 0, 1) := dk_3 (dk_at dksL_law_8 3 rfl rfl)
theorem dL_law_389 : decode cL_law 389 = .ok (.ireturn, 1) := dk_172 (dk_at dksL_law_8 4 rfl rfl)
theorem dL_law_390 : decode cL_law 390 = .ok (.aload_n 1, 1) := dk_43 (dk_at dksL_law_8 5 rfl rfl)
theorem dL_law_391 : decode cL_law 391 = .ok (.aload_n 0, 1) := dk_42 (dk_at dksL_law_8 6 rfl rfl)
theorem dL_law_392 : decode cL_law 392 = .ok (.iload_n 3, 1) := dk_29 (dk_at dksL_law_8 7 rfl rfl)
theorem dL_law_393 : decode cL_law 393 = .ok (.iconst 1, 1) := dk_4 (dk_at dksL_law_8 8 rfl rfl)
theorem dL_law_394 : decode cL_law 394 = .ok (.iadd, 1) := dk_96 (dk_at dksL_law_8 9 rfl rfl)
theorem dL_law_395 : decode cL_law 395 = .ok (.iaload, 1) := dk_46 (dk_at dksL_law_8 10 rfl rfl)
theorem dL_law_396 : decode cL_law 396 = .ok (.aload_n 0, 1) := dk_42 (dk_at dksL_law_8 11 rfl rfl)
theorem dL_law_397 : decode cL_law 397 = .ok (.iload_n 3, 1) := dk_29 (dk_at dksL_law_8 12 rfl rfl)
theorem dL_law_398 : decode cL_law 398 = .ok (.iconst 2, 1) := dk_5 (dk_at dksL_law_8 13 rfl rfl)
theorem dL_law_399 : decode cL_law 399 = .ok (.iadd, 1) := dk_96 (dk_at dksL_law_8 14 rfl rfl)
theorem dL_law_400 : decode cL_law 400 = .ok (.iaload, 1) := dk_46 (dk_at dksL_law_8 15 rfl rfl)
theorem dL_law_401 : decode cL_law 401 = .ok (.invokevirtual 32, 3) := dk_182 0 32 (dk_at dksL_law_8 16 rfl rfl)
theorem dL_law_404 : decode cL_law 404 = .ok (.aload_n 2, 1) := dk_44 (dk_at dksL_law_8 19 rfl rfl)
theorem dL_law_405 : decode cL_law 405 = .ok (.aload_n 0, 1) := dk_42 (dk_at dksL_law_8 20 rfl rfl)
theorem dL_law_406 : decode cL_law 406 = .ok (.iload_n 3, 1) := dk_29 (dk_at dksL_law_8 21 rfl rfl)
theorem dL_law_407 : decode cL_law 407 = .ok (.iconst 1, 1) := dk_4 (dk_at dksL_law_8 22 rfl rfl)
theorem dL_law_408 : decode cL_law 408 = .ok (.iadd, 1) := dk_96 (dk_at dksL_law_8 23 rfl rfl)
theorem dL_law_409 : decode cL_law 409 = .ok (.iaload, 1) := dk_46 (dk_at dksL_law_9 0 rfl rfl)
theorem dL_law_410 : decode cL_law 410 = .ok (.aload_n 0, 1) := dk_42 (dk_at dksL_law_9 1 rfl rfl)
theorem dL_law_411 : decode cL_law 411 = .ok (.iload_n 3, 1) := dk_29 (dk_at dksL_law_9 2 rfl rfl)
theorem dL_law_412 : decode cL_law 412 = .ok (.iconst 2, 1) := dk_5 (dk_at dksL_law_9 3 rfl rfl)
theorem dL_law_413 : decode cL_law 413 = .ok (.iadd, 1) := dk_96 (dk_at dksL_law_9 4 rfl rfl)
theorem dL_law_414 : decode cL_law 414 = .ok (.iaload, 1) := dk_46 (dk_at dksL_law_9 5 rfl rfl)
theorem dL_law_415 : decode cL_law 415 = .ok (.invokevirtual 36, 3) := dk_182 0 36 (dk_at dksL_law_9 6 rfl rfl)
theorem dL_law_418 : decode cL_law 418 = .ok (.if_icmp .eq 1416, 3) := dk_159 5 136 (dk_at dksL_law_9 9 rfl rfl)
theorem dL_law_421 : decode cL_law 421 = .ok (.iconst 0, 1) := dk_3 (dk_at dksL_law_9 12 rfl rfl)
theorem dL_law_422 : decode cL_law 422 = .ok (.ireturn, 1) := dk_172 (dk_at dksL_law_9 13 rfl rfl)
theorem dL_law_423 : decode cL_law 423 = .ok (.aload_n 1, 1) := dk_43 (dk_at dksL_law_9 14 rfl rfl)
theorem dL_law_424 : decode cL_law 424 = .ok (.aload_n 0, 1) := dk_42 (dk_at dksL_law_9 15 rfl rfl)
theorem dL_law_425 : decode cL_law 425 = .ok (.iload_n 3, 1) := dk_29 (dk_at dksL_law_9 16 rfl rfl)
theorem dL_law_426 : decode cL_law 426 = .ok (.iconst 1, 1) := dk_4 (dk_at dksL_law_9 17 rfl rfl)
theorem dL_law_427 : decode cL_law 427 = .ok (.iadd, 1) := dk_96 (dk_at dksL_law_9 18 rfl rfl)
theorem dL_law_428 : decode cL_law 428 = .ok (.iaload, 1) := dk_46 (dk_at dksL_law_9 19 rfl rfl)
theorem dL_law_429 : decode cL_law 429 = .ok (.aload_n 0, 1) := dk_42 (dk_at dksL_law_9 20 rfl rfl)
theorem dL_law_430 : decode cL_law 430 = .ok (.iload_n 3, 1) := dk_29 (dk_at dksL_law_9 21 rfl rfl)
theorem dL_law_431 : decode cL_law 431 = .ok (.iconst 2, 1) := dk_5 (dk_at dksL_law_9 22 rfl rfl)
theorem dL_law_432 : decode cL_law 432 = .ok (.iadd, 1) := dk_96 (dk_at dksL_law_9 23 rfl rfl)
theorem dL_law_433 : decode cL_law 433 = .ok (.iaload, 1) := dk_46 (dk_at dksL_law_10 0 rfl rfl)
theorem dL_law_434 : decode cL_law 434 = .ok (.aload_n 0, 1) := dk_42 (dk_at dksL_law_10 1 rfl rfl)
theorem dL_law_435 : decode cL_law 435 = .ok (.iload_n 3, 1) := dk_29 (dk_at dksL_law_10 2 rfl rfl)
theorem dL_law_436 : decode cL_law 436 = .ok (.iconst 3, 1) := dk_6 (dk_at dksL_law_10 3 rfl rfl)
theorem dL_law_437 : decode cL_law 437 = .ok (.iadd, 1) := dk_96 (dk_at dksL_law_10 4 rfl rfl)
theorem dL_law_438 : decode cL_law 438 = .ok (.iaload, 1) := dk_46 (dk_at dksL_law_10 5 rfl rfl)
theorem dL_law_439 : decode cL_law 439 = .ok (.invokevirtual 37, 3) := dk_182 0 37 (dk_at dksL_law_10 6 rfl rfl)
theorem dL_law_442 : decode cL_law 442 = .ok (.aload_n 2, 1) := dk_44 (dk_at dksL_law_10 9 rfl rfl)
theorem dL_law_443 : decode cL_law 443 = .ok (.aload_n 0, 1) := dk_42 (dk_at dksL_law_10 10 rfl rfl)
theorem dL_law_444 : decode cL_law 444 = .ok (.iload_n 3, 1) := dk_29 (dk_at dksL_law_10 11 rfl rfl)
theorem dL_law_445 : decode cL_law 445 = .ok (.iconst 1, 1) := dk_4 (dk_at dksL_law_10 12 rfl rfl)
theorem dL_law_446 : decode cL_law 446 = .ok (.iadd, 1) := dk_96 (dk_at dksL_law_10 13 rfl rfl)
theorem dL_law_447 : decode cL_law 447 = .ok (.iaload, 1) := dk_46 (dk_at dksL_law_10 14 rfl rfl)
theorem dL_law_448 : decode cL_law 448 = .ok (.aload_n 0, 1) := dk_42 (dk_at dksL_law_10 15 rfl rfl)
theorem dL_law_449 : decode cL_law 449 = .ok (.iload_n 3, 1) := dk_29 (dk_at dksL_law_10 16 rfl rfl)
theorem dL_law_450 : decode cL_law 450 = .ok (.iconst 2, 1) := dk_5 (dk_at dksL_law_10 17 rfl rfl)
theorem dL_law_451 : decode cL_law 451 = .ok (.iadd, 1) := dk_96 (dk_at dksL_law_10 18 rfl rfl)
theorem dL_law_452 : decode cL_law 452 = .ok (.iaload, 1) := dk_46 (dk_at dksL_law_10 19 rfl rfl)
theorem dL_law_453 : decode cL_law 453 = .ok (.aload_n 0, 1) := dk_42 (dk_at dksL_law_10 20 rfl rfl)
theorem dL_law_454 : decode cL_law 454 = .ok (.iload_n 3, 1) := dk_29 (dk_at dksL_law_10 21 rfl rfl)
theorem dL_law_455 : decode cL_law 455 = .ok (.iconst 3, 1) := dk_6 (dk_at dksL_law_10 22 rfl rfl)
theorem dL_law_456 : decode cL_law 456 = .ok (.iadd, 1) := dk_96 (dk_at dksL_law_10 23 rfl rfl)
theorem dL_law_457 : decode cL_law 457 = .ok (.iaload, 1) := dk_46 (dk_at dksL_law_11 0 rfl rfl)
theorem dL_law_458 : decode cL_law 458 = .ok (.invokevirtual 41, 3) := dk_182 0 41 (dk_at dksL_law_11 1 rfl rfl)
theorem dL_law_461 : decode cL_law 461 = .ok (.if_icmp .eq 1373, 3) := dk_159 5 93 (dk_at dksL_law_11 4 rfl rfl)
theorem dL_law_464 : decode cL_law 464 = .ok (.iconst 0, 1) := dk_3 (dk_at dksL_law_11 7 rfl rfl)
theorem dL_law_465 : decode cL_law 465 = .ok (.ireturn, 1) := dk_172 (dk_at dksL_law_11 8 rfl rfl)
theorem dL_law_466 : decode cL_law 466 = .ok (.aload_n 1, 1) := dk_43 (dk_at dksL_law_11 9 rfl rfl)
theorem dL_law_467 : decode cL_law 467 = .ok (.aload_n 0, 1) := dk_42 (dk_at dksL_law_11 10 rfl rfl)
theorem dL_law_468 : decode cL_law 468 = .ok (.iload_n 3, 1) := dk_29 (dk_at dksL_law_11 11 rfl rfl)
theorem dL_law_469 : decode cL_law 469 = .ok (.iconst 1, 1) := dk_4 (dk_at dksL_law_11 12 rfl rfl)
theorem dL_law_470 : decode cL_law 470 = .ok (.iadd, 1) := dk_96 (dk_at dksL_law_11 13 rfl rfl)
theorem dL_law_471 : decode cL_law 471 = .ok (.iaload, 1) := dk_46 (dk_at dksL_law_11 14 rfl rfl)
theorem dL_law_472 : decode cL_law 472 = .ok (.invokevirtual 42, 3) := dk_182 0 42 (dk_at dksL_law_11 15 rfl rfl)
theorem dL_law_475 : decode cL_law 475 = .ok (.aload_n 2, 1) := dk_44 (dk_at dksL_law_11 18 rfl rfl)
theorem dL_law_476 : decode cL_law 476 = .ok (.aload_n 0, 1) := dk_42 (dk_at dksL_law_11 19 rfl rfl)
theorem dL_law_477 : decode cL_law 477 = .ok (.iload_n 3, 1) := dk_29 (dk_at dksL_law_11 20 rfl rfl)
theorem dL_law_478 : decode cL_law 478 = .ok (.iconst 1, 1) := dk_4 (dk_at dksL_law_11 21 rfl rfl)
theorem dL_law_479 : decode cL_law 479 = .ok (.iadd, 1) := dk_96 (dk_at dksL_law_11 22 rfl rfl)
theorem dL_law_480 : decode cL_law 480 = .ok (.iaload, 1) := dk_46 (dk_at dksL_law_11 23 rfl rfl)
theorem dL_law_481 : decode cL_law 481 = .ok (.invokevirtual 45, 3) := dk_182 0 45 (dk_at dksL_law_12 0 rfl rfl)
theorem dL_law_484 : decode cL_law 484 = .ok (.if_icmp .eq 1350, 3) := dk_159 5 70 (dk_at dksL_law_12 3 rfl rfl)
theorem dL_law_487 : decode cL_law 487 = .ok (.iconst 0, 1) := dk_3 (dk_at dksL_law_12 6 rfl rfl)
theorem dL_law_488 : decode cL_law 488 = .ok (.ireturn, 1) := dk_172 (dk_at dksL_law_12 7 rfl rfl)
theorem dL_law_489 : decode cL_law 489 = .ok (.aload_n 1, 1) := dk_43 (dk_at dksL_law_12 8 rfl rfl)
theorem dL_law_490 : decode cL_law 490 = .ok (.aload_n 0, 1) := dk_42 (dk_at dksL_law_12 9 rfl rfl)
theorem dL_law_491 : decode cL_law 491 = .ok (.iload_n 3, 1) := dk_29 (dk_at dksL_law_12 10 rfl rfl)
theorem dL_law_492 : decode cL_law 492 = .ok (.iconst 1, 1) := dk_4 (dk_at dksL_law_12 11 rfl rfl)
theorem dL_law_493 : decode cL_law 493 = .ok (.iadd, 1) := dk_96 (dk_at dksL_law_12 12 rfl rfl)
theorem dL_law_494 : decode cL_law 494 = .ok (.iaload, 1) := dk_46 (dk_at dksL_law_12 13 rfl rfl)
theorem dL_law_495 : decode cL_law 495 = .ok (.aload_n 0, 1) := dk_42 (dk_at dksL_law_12 14 rfl rfl)
theorem dL_law_496 : decode cL_law 496 = .ok (.iload_n 3, 1) := dk_29 (dk_at dksL_law_12 15 rfl rfl)
theorem dL_law_497 : decode cL_law 497 = .ok (.iconst 2, 1) := dk_5 (dk_at dksL_law_12 16 rfl rfl)
theorem dL_law_498 : decode cL_law 498 = .ok (.iadd, 1) := dk_96 (dk_at dksL_law_12 17 rfl rfl)
theorem dL_law_499 : decode cL_law 499 = .ok (.iaload, 1) := dk_46 (dk_at dksL_law_12 18 rfl rfl)
theorem dL_law_500 : decode cL_law 500 = .ok (.invokevirtual 46, 3) := dk_182 0 46 (dk_at dksL_law_12 19 rfl rfl)
theorem dL_law_503 : decode cL_law 503 = .ok (.aload_n 2, 1) := dk_44 (dk_at dksL_law_12 22 rfl rfl)
theorem dL_law_504 : decode cL_law 504 = .ok (.aload_n 0, 1) := dk_42 (dk_at dksL_law_12 23 rfl rfl)
theorem dL_law_505 : decode cL_law 505 = .ok (.iload_n 3, 1) := dk_29 (dk_at dksL_law_13 0 rfl rfl)
theorem dL_law_506 : decode cL_law 506 = .ok (.iconst 1, 1) := dk_4 (dk_at dksL_law_13 1 rfl rfl)
theorem dL_law_507 : decode cL_law 507 = .ok (.iadd, 1) := dk_96 (dk_at dksL_law_13 2 rfl rfl)
theorem dL_law_508 : decode cL_law 508 = .ok (.iaload, 1) := dk_46 (dk_at dksL_law_13 3 rfl rfl)
theorem dL_law_509 : decode cL_law 509 = .ok (.aload_n 0, 1) := dk_42 (dk_at dksL_law_13 4 rfl rfl)
theorem dL_law_510 : decode cL_law 510 = .ok (.iload_n 3, 1) := dk_29 (dk_at dksL_law_13 5 rfl rfl)
theorem dL_law_511 : decode cL_law 511 = .ok (.iconst 2, 1) := dk_5 (dk_at dksL_law_13 6 rfl rfl)
theorem dL_law_512 : decode cL_law 512 = .ok (.iadd, 1) := dk_96 (dk_at dksL_law_13 7 rfl rfl)
theorem dL_law_513 : decode cL_law 513 = .ok (.iaload, 1) := dk_46 (dk_at dksL_law_13 8 rfl rfl)
theorem dL_law_514 : decode cL_law 514 = .ok (.invokevirtual 49, 3) := dk_182 0 49 (dk_at dksL_law_13 9 rfl rfl)
theorem dL_law_517 : decode cL_law 517 = .ok (.if_icmp .eq 1317, 3) := dk_159 5 37 (dk_at dksL_law_13 12 rfl rfl)
theorem dL_law_520 : decode cL_law 520 = .ok (.iconst 0, 1) := dk_3 (dk_at dksL_law_13 15 rfl rfl)
theorem dL_law_521 : decode cL_law 521 = .ok (.ireturn, 1) := dk_172 (dk_at dksL_law_13 16 rfl rfl)
theorem dL_law_522 : decode cL_law 522 = .ok (.aload_n 1, 1) := dk_43 (dk_at dksL_law_13 17 rfl rfl)
theorem dL_law_523 : decode cL_law 523 = .ok (.aload_n 0, 1) := dk_42 (dk_at dksL_law_13 18 rfl rfl)
theorem dL_law_524 : decode cL_law 524 = .ok (.iload_n 3, 1) := dk_29 (dk_at dksL_law_13 19 rfl rfl)
theorem dL_law_525 : decode cL_law 525 = .ok (.iconst 1, 1) := dk_4 (dk_at dksL_law_13 20 rfl rfl)
theorem dL_law_526 : decode cL_law 526 = .ok (.iadd, 1) := dk_96 (dk_at dksL_law_13 21 rfl rfl)
theorem dL_law_527 : decode cL_law 527 = .ok (.iaload, 1) := dk_46 (dk_at dksL_law_13 22 rfl rfl)
theorem dL_law_528 : decode cL_law 528 = .ok (.aload_n 0, 1) := dk_42 (dk_at dksL_law_13 23 rfl rfl)
theorem dL_law_529 : decode cL_law 529 = .ok (.iload_n 3, 1) := dk_29 (dk_at dksL_law_14 0 rfl rfl)
theorem dL_law_530 : decode cL_law 530 = .ok (.iconst 2, 1) := dk_5 (dk_at dksL_law_14 1 rfl rfl)
theorem dL_law_531 : decode cL_law 531 = .ok (.iadd, 1) := dk_96 (dk_at dksL_law_14 2 rfl rfl)
theorem dL_law_532 : decode cL_law 532 = .ok (.iaload, 1) := dk_46 (dk_at dksL_law_14 3 rfl rfl)
theorem dL_law_533 : decode cL_law 533 = .ok (.invokevirtual 50, 3) := dk_182 0 50 (dk_at dksL_law_14 4 rfl rfl)
theorem dL_law_536 : decode cL_law 536 = .ok (.aload_n 2, 1) := dk_44 (dk_at dksL_law_14 7 rfl rfl)
theorem dL_law_537 : decode cL_law 537 = .ok (.aload_n 0, 1) := dk_42 (dk_at dksL_law_14 8 rfl rfl)
theorem dL_law_538 : decode cL_law 538 = .ok (.iload_n 3, 1) := dk_29 (dk_at dksL_law_14 9 rfl rfl)
theorem dL_law_539 : decode cL_law 539 = .ok (.iconst 1, 1) := dk_4 (dk_at dksL_law_14 10 rfl rfl)
theorem dL_law_540 : decode cL_law 540 = .ok (.iadd, 1) := dk_96 (dk_at dksL_law_14 11 rfl rfl)
theorem dL_law_541 : decode cL_law 541 = .ok (.iaload, 1) := dk_46 (dk_at dksL_law_14 12 rfl rfl)
theorem dL_law_542 : decode cL_law 542 = .ok (.aload_n 0, 1) := dk_42 (dk_at dksL_law_14 13 rfl rfl)
theorem dL_law_543 : decode cL_law 543 = .ok (.iload_n 3, 1) := dk_29 (dk_at dksL_law_14 14 rfl rfl)
theorem dL_law_544 : decode cL_law 544 = .ok (.iconst 2, 1) := dk_5 (dk_at dksL_law_14 15 rfl rfl)
theorem dL_law_545 : decode cL_law 545 = .ok (.iadd, 1) := dk_96 (dk_at dksL_law_14 16 rfl rfl)
theorem dL_law_546 : decode cL_law 546 = .ok (.iaload, 1) := dk_46 (dk_at dksL_law_14 17 rfl rfl)
theorem dL_law_547 : decode cL_law 547 = .ok (.invokevirtual 53, 3) := dk_182 0 53 (dk_at dksL_law_14 18 rfl rfl)
theorem dL_law_550 : decode cL_law 550 = .ok (.if_icmp .eq 1284, 3) := dk_159 5 4 (dk_at dksL_law_14 21 rfl rfl)
theorem dL_law_553 : decode cL_law 553 = .ok (.iconst 0, 1) := dk_3 (dk_at dksL_law_15 0 rfl rfl)
theorem dL_law_554 : decode cL_law 554 = .ok (.ireturn, 1) := dk_172 (dk_at dksL_law_15 1 rfl rfl)
theorem dL_law_555 : decode cL_law 555 = .ok (.aload_n 1, 1) := dk_43 (dk_at dksL_law_15 2 rfl rfl)
theorem dL_law_556 : decode cL_law 556 = .ok (.aload_n 0, 1) := dk_42 (dk_at dksL_law_15 3 rfl rfl)
theorem dL_law_557 : decode cL_law 557 = .ok (.iload_n 3, 1) := dk_29 (dk_at dksL_law_15 4 rfl rfl)
theorem dL_law_558 : decode cL_law 558 = .ok (.iconst 1, 1) := dk_4 (dk_at dksL_law_15 5 rfl rfl)
theorem dL_law_559 : decode cL_law 559 = .ok (.iadd, 1) := dk_96 (dk_at dksL_law_15 6 rfl rfl)
theorem dL_law_560 : decode cL_law 560 = .ok (.iaload, 1) := dk_46 (dk_at dksL_law_15 7 rfl rfl)
theorem dL_law_561 : decode cL_law 561 = .ok (.invokevirtual 54, 3) := dk_182 0 54 (dk_at dksL_law_15 8 rfl rfl)
theorem dL_law_564 : decode cL_law 564 = .ok (.aload_n 2, 1) := dk_44 (dk_at dksL_law_15 11 rfl rfl)
theorem dL_law_565 : decode cL_law 565 = .ok (.aload_n 0, 1) := dk_42 (dk_at dksL_law_15 12 rfl rfl)
theorem dL_law_566 : decode cL_law 566 = .ok (.iload_n 3, 1) := dk_29 (dk_at dksL_law_15 13 rfl rfl)
theorem dL_law_567 : decode cL_law 567 = .ok (.iconst 1, 1) := dk_4 (dk_at dksL_law_15 14 rfl rfl)
theorem dL_law_568 : decode cL_law 568 = .ok (.iadd, 1) := dk_96 (dk_at dksL_law_15 15 rfl rfl)
theorem dL_law_569 : decode cL_law 569 = .ok (.iaload, 1) := dk_46 (dk_at dksL_law_15 16 rfl rfl)
theorem dL_law_570 : decode cL_law 570 = .ok (.invokevirtual 57, 3) := dk_182 0 57 (dk_at dksL_law_15 17 rfl rfl)
theorem dL_law_573 : decode cL_law 573 = .ok (.if_icmp .eq 1261, 3) := dk_159 4 237 (dk_at dksL_law_15 20 rfl rfl)
theorem dL_law_576 : decode cL_law 576 = .ok (.iconst 0, 1) := dk_3 (dk_at dksL_law_15 23 rfl rfl)
theorem dL_law_577 : decode cL_law 577 = .ok (.ireturn, 1) := dk_172 (dk_at dksL_law_16 0 rfl rfl)
theorem dL_law_578 : decode cL_law 578 = .ok (.aload_n 1, 1) := dk_43 (dk_at dksL_law_16 1 rfl rfl)
theorem dL_law_579 : decode cL_law 579 = .ok (.aload_n 0, 1) := dk_42 (dk_at dksL_law_16 2 rfl rfl)
theorem dL_law_580 : decode cL_law 580 = .ok (.iload_n 3, 1) := dk_29 (dk_at dksL_law_16 3 rfl rfl)
theorem dL_law_581 : decode cL_law 581 = .ok (.iconst 1, 1) := dk_4 (dk_at dksL_law_16 4 rfl rfl)
theorem dL_law_582 : decode cL_law 582 = .ok (.iadd, 1) := dk_96 (dk_at dksL_law_16 5 rfl rfl)
theorem dL_law_583 : decode cL_law 583 = .ok (.iaload, 1) := dk_46 (dk_at dksL_law_16 6 rfl rfl)
theorem dL_law_584 : decode cL_law 584 = .ok (.invokevirtual 58, 3) := dk_182 0 58 (dk_at dksL_law_16 7 rfl rfl)
theorem dL_law_587 : decode cL_law 587 = .ok (.aload_n 2, 1) := dk_44 (dk_at dksL_law_16 10 rfl rfl)
theorem dL_law_588 : decode cL_law 588 = .ok (.aload_n 0, 1) := dk_42 (dk_at dksL_law_16 11 rfl rfl)
theorem dL_law_589 : decode cL_law 589 = .ok (.iload_n 3, 1) := dk_29 (dk_at dksL_law_16 12 rfl rfl)
theorem dL_law_590 : decode cL_law 590 = .ok (.iconst 1, 1) := dk_4 (dk_at dksL_law_16 13 rfl rfl)
theorem dL_law_591 : decode cL_law 591 = .ok (.iadd, 1) := dk_96 (dk_at dksL_law_16 14 rfl rfl)
theorem dL_law_592 : decode cL_law 592 = .ok (.iaload, 1) := dk_46 (dk_at dksL_law_16 15 rfl rfl)
theorem dL_law_593 : decode cL_law 593 = .ok (.invokevirtual 61, 3) := dk_182 0 61 (dk_at dksL_law_16 16 rfl rfl)
theorem dL_law_596 : decode cL_law 596 = .ok (.if_icmp .eq 1238, 3) := dk_159 4 214 (dk_at dksL_law_16 19 rfl rfl)
theorem dL_law_599 : decode cL_law 599 = .ok (.iconst 0, 1) := dk_3 (dk_at dksL_law_16 22 rfl rfl)
theorem dL_law_600 : decode cL_law 600 = .ok (.ireturn, 1) := dk_172 (dk_at dksL_law_16 23 rfl rfl)
theorem dL_law_601 : decode cL_law 601 = .ok (.aload_n 1, 1) := dk_43 (dk_at dksL_law_17 0 rfl rfl)
theorem dL_law_602 : decode cL_law 602 = .ok (.aload_n 0, 1) := dk_42 (dk_at dksL_law_17 1 rfl rfl)
theorem dL_law_603 : decode cL_law 603 = .ok (.iload_n 3, 1) := dk_29 (dk_at dksL_law_17 2 rfl rfl)
theorem dL_law_604 : decode cL_law 604 = .ok (.iconst 1, 1) := dk_4 (dk_at dksL_law_17 3 rfl rfl)
theorem dL_law_605 : decode cL_law 605 = .ok (.iadd, 1) := dk_96 (dk_at dksL_law_17 4 rfl rfl)
theorem dL_law_606 : decode cL_law 606 = .ok (.iaload, 1) := dk_46 (dk_at dksL_law_17 5 rfl rfl)
theorem dL_law_607 : decode cL_law 607 = .ok (.aload_n 0, 1) := dk_42 (dk_at dksL_law_17 6 rfl rfl)
theorem dL_law_608 : decode cL_law 608 = .ok (.iload_n 3, 1) := dk_29 (dk_at dksL_law_17 7 rfl rfl)
theorem dL_law_609 : decode cL_law 609 = .ok (.iconst 2, 1) := dk_5 (dk_at dksL_law_17 8 rfl rfl)
theorem dL_law_610 : decode cL_law 610 = .ok (.iadd, 1) := dk_96 (dk_at dksL_law_17 9 rfl rfl)
theorem dL_law_611 : decode cL_law 611 = .ok (.iaload, 1) := dk_46 (dk_at dksL_law_17 10 rfl rfl)
theorem dL_law_612 : decode cL_law 612 = .ok (.invokevirtual 62, 3) := dk_182 0 62 (dk_at dksL_law_17 11 rfl rfl)
theorem dL_law_615 : decode cL_law 615 = .ok (.aload_n 2, 1) := dk_44 (dk_at dksL_law_17 14 rfl rfl)
theorem dL_law_616 : decode cL_law 616 = .ok (.aload_n 0, 1) := dk_42 (dk_at dksL_law_17 15 rfl rfl)
theorem dL_law_617 : decode cL_law 617 = .ok (.iload_n 3, 1) := dk_29 (dk_at dksL_law_17 16 rfl rfl)
theorem dL_law_618 : decode cL_law 618 = .ok (.iconst 1, 1) := dk_4 (dk_at dksL_law_17 17 rfl rfl)
theorem dL_law_619 : decode cL_law 619 = .ok (.iadd, 1) := dk_96 (dk_at dksL_law_17 18 rfl rfl)
theorem dL_law_620 : decode cL_law 620 = .ok (.iaload, 1) := dk_46 (dk_at dksL_law_17 19 rfl rfl)
theorem dL_law_621 : decode cL_law 621 = .ok (.aload_n 0, 1) := dk_42 (dk_at dksL_law_17 20 rfl rfl)
theorem dL_law_622 : decode cL_law 622 = .ok (.iload_n 3, 1) := dk_29 (dk_at dksL_law_17 21 rfl rfl)
theorem dL_law_623 : decode cL_law 623 = .ok (.iconst 2, 1) := dk_5 (dk_at dksL_law_17 22 rfl rfl)
theorem dL_law_624 : decode cL_law 624 = .ok (.iadd, 1) := dk_96 (dk_at dksL_law_17 23 rfl rfl)
theorem dL_law_625 : decode cL_law 625 = .ok (.iaload, 1) := dk_46 (dk_at dksL_law_18 0 rfl rfl)
theorem dL_law_626 : decode cL_law 626 = .ok (.invokevirtual 65, 3) := dk_182 0 65 (dk_at dksL_law_18 1 rfl rfl)
theorem dL_law_629 : decode cL_law 629 = .ok (.if_icmp .eq 1205, 3) := dk_159 4 181 (dk_at dksL_law_18 4 rfl rfl)
theorem dL_law_632 : decode cL_law 632 = .ok (.iconst 0, 1) := dk_3 (dk_at dksL_law_18 7 rfl rfl)
theorem dL_law_633 : decode cL_law 633 = .ok (.ireturn, 1) := dk_172 (dk_at dksL_law_18 8 rfl rfl)
theorem dL_law_634 : decode cL_law 634 = .ok (.aload_n 1, 1) := dk_43 (dk_at dksL_law_18 9 rfl rfl)
theorem dL_law_635 : decode cL_law 635 = .ok (.aload_n 0, 1) := dk_42 (dk_at dksL_law_18 10 rfl rfl)
theorem dL_law_636 : decode cL_law 636 = .ok (.iload_n 3, 1) := dk_29 (dk_at dksL_law_18 11 rfl rfl)
theorem dL_law_637 : decode cL_law 637 = .ok (.iconst 1, 1) := dk_4 (dk_at dksL_law_18 12 rfl rfl)
theorem dL_law_638 : decode cL_law 638 = .ok (.iadd, 1) := dk_96 (dk_at dksL_law_18 13 rfl rfl)
theorem dL_law_639 : decode cL_law 639 = .ok (.iaload, 1) := dk_46 (dk_at dksL_law_18 14 rfl rfl)
theorem dL_law_640 : decode cL_law 640 = .ok (.invokevirtual 66, 3) := dk_182 0 66 (dk_at dksL_law_18 15 rfl rfl)
theorem dL_law_643 : decode cL_law 643 = .ok (.aload_n 2, 1) := dk_44 (dk_at dksL_law_18 18 rfl rfl)
theorem dL_law_644 : decode cL_law 644 = .ok (.aload_n 0, 1) := dk_42 (dk_at dksL_law_18 19 rfl rfl)
theorem dL_law_645 : decode cL_law 645 = .ok (.iload_n 3, 1) := dk_29 (dk_at dksL_law_18 20 rfl rfl)
theorem dL_law_646 : decode cL_law 646 = .ok (.iconst 1, 1) := dk_4 (dk_at dksL_law_18 21 rfl rfl)
theorem dL_law_647 : decode cL_law 647 = .ok (.iadd, 1) := dk_96 (dk_at dksL_law_18 22 rfl rfl)
theorem dL_law_648 : decode cL_law 648 = .ok (.iaload, 1) := dk_46 (dk_at dksL_law_18 23 rfl rfl)
theorem dL_law_649 : decode cL_law 649 = .ok (.invokevirtual 69, 3) := dk_182 0 69 (dk_at dksL_law_19 0 rfl rfl)
theorem dL_law_652 : decode cL_law 652 = .ok (.if_icmp .eq 1182, 3) := dk_159 4 158 (dk_at dksL_law_19 3 rfl rfl)
theorem dL_law_655 : decode cL_law 655 = .ok (.iconst 0, 1) := dk_3 (dk_at dksL_law_19 6 rfl rfl)
theorem dL_law_656 : decode cL_law 656 = .ok (.ireturn, 1) := dk_172 (dk_at dksL_law_19 7 rfl rfl)
theorem dL_law_657 : decode cL_law 657 = .ok (.aload_n 1, 1) := dk_43 (dk_at dksL_law_19 8 rfl rfl)
theorem dL_law_658 : decode cL_law 658 = .ok (.invokevirtual 70, 3) := dk_182 0 70 (dk_at dksL_law_19 9 rfl rfl)
theorem dL_law_661 : decode cL_law 661 = .ok (.aload_n 2, 1) := dk_44 (dk_at dksL_law_19 12 rfl rfl)
theorem dL_law_662 : decode cL_law 662 = .ok (.invokevirtual 73, 3) := dk_182 0 73 (dk_at dksL_law_19 13 rfl rfl)
theorem dL_law_665 : decode cL_law 665 = .ok (.if_icmp .eq 1169, 3) := dk_159 4 145 (dk_at dksL_law_19 16 rfl rfl)
theorem dL_law_668 : decode cL_law 668 = .ok (.iconst 0, 1) := dk_3 (dk_at dksL_law_19 19 rfl rfl)
theorem dL_law_669 : decode cL_law 669 = .ok (.ireturn, 1) := dk_172 (dk_at dksL_law_19 20 rfl rfl)
theorem dL_law_670 : decode cL_law 670 = .ok (.aload_n 1, 1) := dk_43 (dk_at dksL_law_19 21 rfl rfl)
theorem dL_law_671 : decode cL_law 671 = .ok (.aload_n 0, 1) := dk_42 (dk_at dksL_law_19 22 rfl rfl)
theorem dL_law_672 : decode cL_law 672 = .ok (.iload_n 3, 1) := dk_29 (dk_at dksL_law_19 23 rfl rfl)
theorem dL_law_673 : decode cL_law 673 = .ok (.iconst 1, 1) := dk_4 (dk_at dksL_law_20 0 rfl rfl)
theorem dL_law_674 : decode cL_law 674 = .ok (.iadd, 1) := dk_96 (dk_at dksL_law_20 1 rfl rfl)
theorem dL_law_675 : decode cL_law 675 = .ok (.iaload, 1) := dk_46 (dk_at dksL_law_20 2 rfl rfl)
theorem dL_law_676 : decode cL_law 676 = .ok (.invokevirtual 74, 3) := dk_182 0 74 (dk_at dksL_law_20 3 rfl rfl)
theorem dL_law_679 : decode cL_law 679 = .ok (.aload_n 2, 1) := dk_44 (dk_at dksL_law_20 6 rfl rfl)
theorem dL_law_680 : decode cL_law 680 = .ok (.aload_n 0, 1) := dk_42 (dk_at dksL_law_20 7 rfl rfl)
theorem dL_law_681 : decode cL_law 681 = .ok (.iload_n 3, 1) := dk_29 (dk_at dksL_law_20 8 rfl rfl)
theorem dL_law_682 : decode cL_law 682 = .ok (.iconst 1, 1) := dk_4 (dk_at dksL_law_20 9 rfl rfl)
theorem dL_law_683 : decode cL_law 683 = .ok (.iadd, 1) := dk_96 (dk_at dksL_law_20 10 rfl rfl)
theorem dL_law_684 : decode cL_law 684 = .ok (.iaload, 1) := dk_46 (dk_at dksL_law_20 11 rfl rfl)
theorem dL_law_685 : decode cL_law 685 = .ok (.invokevirtual 77, 3) := dk_182 0 77 (dk_at dksL_law_20 12 rfl rfl)
theorem dL_law_688 : decode cL_law 688 = .ok (.if_icmp .eq 1146, 3) := dk_159 4 122 (dk_at dksL_law_20 15 rfl rfl)
theorem dL_law_691 : decode cL_law 691 = .ok (.iconst 0, 1) := dk_3 (dk_at dksL_law_20 18 rfl rfl)
theorem dL_law_692 : decode cL_law 692 = .ok (.ireturn, 1) := dk_172 (dk_at dksL_law_20 19 rfl rfl)
theorem dL_law_693 : decode cL_law 693 = .ok (.aload_n 1, 1) := dk_43 (dk_at dksL_law_20 20 rfl rfl)
theorem dL_law_694 : decode cL_law 694 = .ok (.aload_n 0, 1) := dk_42 (dk_at dksL_law_20 21 rfl rfl)
theorem dL_law_695 : decode cL_law 695 = .ok (.iload_n 3, 1) := dk_29 (dk_at dksL_law_20 22 rfl rfl)
theorem dL_law_696 : decode cL_law 696 = .ok (.iconst 1, 1) := dk_4 (dk_at dksL_law_20 23 rfl rfl)
theorem dL_law_697 : decode cL_law 697 = .ok (.iadd, 1) := dk_96 (dk_at dksL_law_21 0 rfl rfl)
theorem dL_law_698 : decode cL_law 698 = .ok (.iaload, 1) := dk_46 (dk_at dksL_law_21 1 rfl rfl)
theorem dL_law_699 : decode cL_law 699 = .ok (.aload_n 0, 1) := dk_42 (dk_at dksL_law_21 2 rfl rfl)
theorem dL_law_700 : decode cL_law 700 = .ok (.iload_n 3, 1) := dk_29 (dk_at dksL_law_21 3 rfl rfl)
theorem dL_law_701 : decode cL_law 701 = .ok (.iconst 2, 1) := dk_5 (dk_at dksL_law_21 4 rfl rfl)
theorem dL_law_702 : decode cL_law 702 = .ok (.iadd, 1) := dk_96 (dk_at dksL_law_21 5 rfl rfl)
theorem dL_law_703 : decode cL_law 703 = .ok (.iaload, 1) := dk_46 (dk_at dksL_law_21 6 rfl rfl)
theorem dL_law_704 : decode cL_law 704 = .ok (.aload_n 0, 1) := dk_42 (dk_at dksL_law_21 7 rfl rfl)
theorem dL_law_705 : decode cL_law 705 = .ok (.iload_n 3, 1) := dk_29 (dk_at dksL_law_21 8 rfl rfl)
theorem dL_law_706 : decode cL_law 706 = .ok (.iconst 3, 1) := dk_6 (dk_at dksL_law_21 9 rfl rfl)
theorem dL_law_707 : decode cL_law 707 = .ok (.iadd, 1) := dk_96 (dk_at dksL_law_21 10 rfl rfl)
theorem dL_law_708 : decode cL_law 708 = .ok (.iaload, 1) := dk_46 (dk_at dksL_law_21 11 rfl rfl)
theorem dL_law_709 : decode cL_law 709 = .ok (.invokevirtual 78, 3) := dk_182 0 78 (dk_at dksL_law_21 12 rfl rfl)
theorem dL_law_712 : decode cL_law 712 = .ok (.aload_n 2, 1) := dk_44 (dk_at dksL_law_21 15 rfl rfl)
theorem dL_law_713 : decode cL_law 713 = .ok (.aload_n 0, 1) := dk_42 (dk_at dksL_law_21 16 rfl rfl)
theorem dL_law_714 : decode cL_law 714 = .ok (.iload_n 3, 1) := dk_29 (dk_at dksL_law_21 17 rfl rfl)
theorem dL_law_715 : decode cL_law 715 = .ok (.iconst 1, 1) := dk_4 (dk_at dksL_law_21 18 rfl rfl)
theorem dL_law_716 : decode cL_law 716 = .ok (.iadd, 1) := dk_96 (dk_at dksL_law_21 19 rfl rfl)
theorem dL_law_717 : decode cL_law 717 = .ok (.iaload, 1) := dk_46 (dk_at dksL_law_21 20 rfl rfl)
theorem dL_law_718 : decode cL_law 718 = .ok (.aload_n 0, 1) := dk_42 (dk_at dksL_law_21 21 rfl rfl)
theorem dL_law_719 : decode cL_law 719 = .ok (.iload_n 3, 1) := dk_29 (dk_at dksL_law_21 22 rfl rfl)
theorem dL_law_720 : decode cL_law 720 = .ok (.iconst 2, 1) := dk_5 (dk_at dksL_law_21 23 rfl rfl)
theorem dL_law_721 : decode cL_law 721 = .ok (.iadd, 1) := dk_96 (dk_at dksL_law_22 0 rfl rfl)
theorem dL_law_722 : decode cL_law 722 = .ok (.iaload, 1) := dk_46 (dk_at dksL_law_22 1 rfl rfl)
theorem dL_law_723 : decode cL_law 723 = .ok (.aload_n 0, 1) := dk_42 (dk_at dksL_law_22 2 rfl rfl)
theorem dL_law_724 : decode cL_law 724 = .ok (.iload_n 3, 1) := dk_29 (dk_at dksL_law_22 3 rfl rfl)
theorem dL_law_725 : decode cL_law 725 = .ok (.iconst 3, 1) := dk_6 (dk_at dksL_law_22 4 rfl rfl)
theorem dL_law_726 : decode cL_law 726 = .ok (.iadd, 1) := dk_96 (dk_at dksL_law_22 5 rfl rfl)
theorem dL_law_727 : decode cL_law 727 = .ok (.iaload, 1) := dk_46 (dk_at dksL_law_22 6 rfl rfl)
theorem dL_law_728 : decode cL_law 728 = .ok (.invokevirtual 81, 3) := dk_182 0 81 (dk_at dksL_law_22 7 rfl rfl)
theorem dL_law_731 : decode cL_law 731 = .ok (.if_icmp .eq 1103, 3) := dk_159 4 79 (dk_at dksL_law_22 10 rfl rfl)
theorem dL_law_734 : decode cL_law 734 = .ok (.iconst 0, 1) := dk_3 (dk_at dksL_law_22 13 rfl rfl)
theorem dL_law_735 : decode cL_law 735 = .ok (.ireturn, 1) := dk_172 (dk_at dksL_law_22 14 rfl rfl)
theorem dL_law_736 : decode cL_law 736 = .ok (.aload_n 1, 1) := dk_43 (dk_at dksL_law_22 15 rfl rfl)
theorem dL_law_737 : decode cL_law 737 = .ok (.aload_n 0, 1) := dk_42 (dk_at dksL_law_22 16 rfl rfl)
theorem dL_law_738 : decode cL_law 738 = .ok (.iload_n 3, 1) := dk_29 (dk_at dksL_law_22 17 rfl rfl)
theorem dL_law_739 : decode cL_law 739 = .ok (.iconst 1, 1) := dk_4 (dk_at dksL_law_22 18 rfl rfl)
theorem dL_law_740 : decode cL_law 740 = .ok (.iadd, 1) := dk_96 (dk_at dksL_law_22 19 rfl rfl)
theorem dL_law_741 : decode cL_law 741 = .ok (.iaload, 1) := dk_46 (dk_at dksL_law_22 20 rfl rfl)
theorem dL_law_742 : decode cL_law 742 = .ok (.aload_n 0, 1) := dk_42 (dk_at dksL_law_22 21 rfl rfl)
theorem dL_law_743 : decode cL_law 743 = .ok (.iload_n 3, 1) := dk_29 (dk_at dksL_law_22 22 rfl rfl)
theorem dL_law_744 : decode cL_law 744 = .ok (.iconst 2, 1) := dk_5 (dk_at dksL_law_22 23 rfl rfl)
theorem dL_law_745 : decode cL_law 745 = .ok (.iadd, 1) := dk_96 (dk_at dksL_law_23 0 rfl rfl)
theorem dL_law_746 : decode cL_law 746 = .ok (.iaload, 1) := dk_46 (dk_at dksL_law_23 1 rfl rfl)
theorem dL_law_747 : decode cL_law 747 = .ok (.aload_n 0, 1) := dk_42 (dk_at dksL_law_23 2 rfl rfl)
theorem dL_law_748 : decode cL_law 748 = .ok (.iload_n 3, 1) := dk_29 (dk_at dksL_law_23 3 rfl rfl)
theorem dL_law_749 : decode cL_law 749 = .ok (.iconst 3, 1) := dk_6 (dk_at dksL_law_23 4 rfl rfl)
theorem dL_law_750 : decode cL_law 750 = .ok (.iadd, 1) := dk_96 (dk_at dksL_law_23 5 rfl rfl)
theorem dL_law_751 : decode cL_law 751 = .ok (.iaload, 1) := dk_46 (dk_at dksL_law_23 6 rfl rfl)
theorem dL_law_752 : decode cL_law 752 = .ok (.invokevirtual 82, 3) := dk_182 0 82 (dk_at dksL_law_23 7 rfl rfl)
theorem dL_law_755 : decode cL_law 755 = .ok (.aload_n 2, 1) := dk_44 (dk_at dksL_law_23 10 rfl rfl)
theorem dL_law_756 : decode cL_law 756 = .ok (.aload_n 0, 1) := dk_42 (dk_at dksL_law_23 11 rfl rfl)
theorem dL_law_757 : decode cL_law 757 = .ok (.iload_n 3, 1) := dk_29 (dk_at dksL_law_23 12 rfl rfl)
theorem dL_law_758 : decode cL_law 758 = .ok (.iconst 1, 1) := dk_4 (dk_at dksL_law_23 13 rfl rfl)
theorem dL_law_759 : decode cL_law 759 = .ok (.iadd, 1) := dk_96 (dk_at dksL_law_23 14 rfl rfl)
theorem dL_law_760 : decode cL_law 760 = .ok (.iaload, 1) := dk_46 (dk_at dksL_law_23 15 rfl rfl)
theorem dL_law_761 : decode cL_law 761 = .ok (.aload_n 0, 1) := dk_42 (dk_at dksL_law_23 16 rfl rfl)
theorem dL_law_762 : decode cL_law 762 = .ok (.iload_n 3, 1) := dk_29 (dk_at dksL_law_23 17 rfl rfl)
theorem dL_law_763 : decode cL_law 763 = .ok (.iconst 2, 1) := dk_5 (dk_at dksL_law_23 18 rfl rfl)
theorem dL_law_764 : decode cL_law 764 = .ok (.iadd, 1) := dk_96 (dk_at dksL_law_23 19 rfl rfl)
theorem dL_law_765 : decode cL_law 765 = .ok (.iaload, 1) := dk_46 (dk_at dksL_law_23 20 rfl rfl)
theorem dL_law_766 : decode cL_law 766 = .ok (.aload_n 0, 1) := dk_42 (dk_at dksL_law_23 21 rfl rfl)
theorem dL_law_767 : decode cL_law 767 = .ok (.iload_n 3, 1) := dk_29 (dk_at dksL_law_23 22 rfl rfl)
theorem dL_law_768 : decode cL_law 768 = .ok (.iconst 3, 1) := dk_6 (dk_at dksL_law_23 23 rfl rfl)
theorem dL_law_769 : decode cL_law 769 = .ok (.iadd, 1) := dk_96 (dk_at dksL_law_24 0 rfl rfl)
theorem dL_law_770 : decode cL_law 770 = .ok (.iaload, 1) := dk_46 (dk_at dksL_law_24 1 rfl rfl)
theorem dL_law_771 : decode cL_law 771 = .ok (.invokevirtual 85, 3) := dk_182 0 85 (dk_at dksL_law_24 2 rfl rfl)
theorem dL_law_774 : decode cL_law 774 = .ok (.if_icmp .eq 1060, 3) := dk_159 4 36 (dk_at dksL_law_24 5 rfl rfl)
theorem dL_law_777 : decode cL_law 777 = .ok (.iconst 0, 1) := dk_3 (dk_at dksL_law_24 8 rfl rfl)
theorem dL_law_778 : decode cL_law 778 = .ok (.ireturn, 1) := dk_172 (dk_at dksL_law_24 9 rfl rfl)
theorem dL_law_779 : decode cL_law 779 = .ok (.aload_n 1, 1) := dk_43 (dk_at dksL_law_24 10 rfl rfl)
theorem dL_law_780 : decode cL_law 780 = .ok (.aload_n 0, 1) := dk_42 (dk_at dksL_law_24 11 rfl rfl)
theorem dL_law_781 : decode cL_law 781 = .ok (.iload_n 3, 1) := dk_29 (dk_at dksL_law_24 12 rfl rfl)
theorem dL_law_782 : decode cL_law 782 = .ok (.iconst 1, 1) := dk_4 (dk_at dksL_law_24 13 rfl rfl)
theorem dL_law_783 : decode cL_law 783 = .ok (.iadd, 1) := dk_96 (dk_at dksL_law_24 14 rfl rfl)
theorem dL_law_784 : decode cL_law 784 = .ok (.iaload, 1) := dk_46 (dk_at dksL_law_24 15 rfl rfl)
theorem dL_law_785 : decode cL_law 785 = .ok (.aload_n 0, 1) := dk_42 (dk_at dksL_law_24 16 rfl rfl)
theorem dL_law_786 : decode cL_law 786 = .ok (.iload_n 3, 1) := dk_29 (dk_at dksL_law_24 17 rfl rfl)
theorem dL_law_787 : decode cL_law 787 = .ok (.iconst 2, 1) := dk_5 (dk_at dksL_law_24 18 rfl rfl)
theorem dL_law_788 : decode cL_law 788 = .ok (.iadd, 1) := dk_96 (dk_at dksL_law_24 19 rfl rfl)
theorem dL_law_789 : decode cL_law 789 = .ok (.iaload, 1) := dk_46 (dk_at dksL_law_24 20 rfl rfl)
theorem dL_law_790 : decode cL_law 790 = .ok (.invokevirtual 86, 3) := dk_182 0 86 (dk_at dksL_law_24 21 rfl rfl)
theorem dL_law_793 : decode cL_law 793 = .ok (.aload_n 2, 1) := dk_44 (dk_at dksL_law_25 0 rfl rfl)
theorem dL_law_794 : decode cL_law 794 = .ok (.aload_n 0, 1) := dk_42 (dk_at dksL_law_25 1 rfl rfl)
theorem dL_law_795 : decode cL_law 795 = .ok (.iload_n 3, 1) := dk_29 (dk_at dksL_law_25 2 rfl rfl)
theorem dL_law_796 : decode cL_law 796 = .ok (.iconst 1, 1) := dk_4 (dk_at dksL_law_25 3 rfl rfl)
theorem dL_law_797 : decode cL_law 797 = .ok (.iadd, 1) := dk_96 (dk_at dksL_law_25 4 rfl rfl)
theorem dL_law_798 : decode cL_law 798 = .ok (.iaload, 1) := dk_46 (dk_at dksL_law_25 5 rfl rfl)
theorem dL_law_799 : decode cL_law 799 = .ok (.aload_n 0, 1) := dk_42 (dk_at dksL_law_25 6 rfl rfl)
theorem dL_law_800 : decode cL_law 800 = .ok (.iload_n 3, 1) := dk_29 (dk_at dksL_law_25 7 rfl rfl)
theorem dL_law_801 : decode cL_law 801 = .ok (.iconst 2, 1) := dk_5 (dk_at dksL_law_25 8 rfl rfl)
theorem dL_law_802 : decode cL_law 802 = .ok (.iadd, 1) := dk_96 (dk_at dksL_law_25 9 rfl rfl)
theorem dL_law_803 : decode cL_law 803 = .ok (.iaload, 1) := dk_46 (dk_at dksL_law_25 10 rfl rfl)
theorem dL_law_804 : decode cL_law 804 = .ok (.invokevirtual 89, 3) := dk_182 0 89 (dk_at dksL_law_25 11 rfl rfl)
theorem dL_law_807 : decode cL_law 807 = .ok (.if_icmp .eq 1027, 3) := dk_159 4 3 (dk_at dksL_law_25 14 rfl rfl)
theorem dL_law_810 : decode cL_law 810 = .ok (.iconst 0, 1) := dk_3 (dk_at dksL_law_25 17 rfl rfl)
theorem dL_law_811 : decode cL_law 811 = .ok (.ireturn, 1) := dk_172 (dk_at dksL_law_25 18 rfl rfl)
theorem dL_law_812 : decode cL_law 812 = .ok (.aload_n 1, 1) := dk_43 (dk_at dksL_law_25 19 rfl rfl)
theorem dL_law_813 : decode cL_law 813 = .ok (.invokevirtual 90, 3) := dk_182 0 90 (dk_at dksL_law_25 20 rfl rfl)
theorem dL_law_816 : decode cL_law 816 = .ok (.aload_n 2, 1) := dk_44 (dk_at dksL_law_25 23 rfl rfl)
theorem dL_law_817 : decode cL_law 817 = .ok (.invokevirtual 93, 3) := dk_182 0 93 (dk_at dksL_law_26 0 rfl rfl)
theorem dL_law_820 : decode cL_law 820 = .ok (.if_icmp .eq 1014, 3) := dk_159 3 246 (dk_at dksL_law_26 3 rfl rfl)
theorem dL_law_823 : decode cL_law 823 = .ok (.iconst 0, 1) := dk_3 (dk_at dksL_law_26 6 rfl rfl)
theorem dL_law_824 : decode cL_law 824 = .ok (.ireturn, 1) := dk_172 (dk_at dksL_law_26 7 rfl rfl)
theorem dL_law_825 : decode cL_law 825 = .ok (.aload_n 1, 1) := dk_43 (dk_at dksL_law_26 8 rfl rfl)
theorem dL_law_826 : decode cL_law 826 = .ok (.invokevirtual 94, 3) := dk_182 0 94 (dk_at dksL_law_26 9 rfl rfl)
theorem dL_law_829 : decode cL_law 829 = .ok (.aload_n 2, 1) := dk_44 (dk_at dksL_law_26 12 rfl rfl)
theorem dL_law_830 : decode cL_law 830 = .ok (.invokevirtual 97, 3) := dk_182 0 97 (dk_at dksL_law_26 13 rfl rfl)
theorem dL_law_833 : decode cL_law 833 = .ok (.if_icmp .eq 1001, 3) := dk_159 3 233 (dk_at dksL_law_26 16 rfl rfl)
theorem dL_law_836 : decode cL_law 836 = .ok (.iconst 0, 1) := dk_3 (dk_at dksL_law_26 19 rfl rfl)
theorem dL_law_837 : decode cL_law 837 = .ok (.ireturn, 1) := dk_172 (dk_at dksL_law_26 20 rfl rfl)
theorem dL_law_838 : decode cL_law 838 = .ok (.aload_n 1, 1) := dk_43 (dk_at dksL_law_26 21 rfl rfl)
theorem dL_law_839 : decode cL_law 839 = .ok (.aload_n 0, 1) := dk_42 (dk_at dksL_law_26 22 rfl rfl)
theorem dL_law_840 : decode cL_law 840 = .ok (.iload_n 3, 1) := dk_29 (dk_at dksL_law_26 23 rfl rfl)
theorem dL_law_841 : decode cL_law 841 = .ok (.iconst 1, 1) := dk_4 (dk_at dksL_law_27 0 rfl rfl)
theorem dL_law_842 : decode cL_law 842 = .ok (.iadd, 1) := dk_96 (dk_at dksL_law_27 1 rfl rfl)
theorem dL_law_843 : decode cL_law 843 = .ok (.iaload, 1) := dk_46 (dk_at dksL_law_27 2 rfl rfl)
theorem dL_law_844 : decode cL_law 844 = .ok (.invokevirtual 98, 3) := dk_182 0 98 (dk_at dksL_law_27 3 rfl rfl)
theorem dL_law_847 : decode cL_law 847 = .ok (.aload_n 2, 1) := dk_44 (dk_at dksL_law_27 6 rfl rfl)
theorem dL_law_848 : decode cL_law 848 = .ok (.aload_n 0, 1) := dk_42 (dk_at dksL_law_27 7 rfl rfl)
theorem dL_law_849 : decode cL_law 849 = .ok (.iload_n 3, 1) := dk_29 (dk_at dksL_law_27 8 rfl rfl)
theorem dL_law_850 : decode cL_law 850 = .ok (.iconst 1, 1) := dk_4 (dk_at dksL_law_27 9 rfl rfl)
theorem dL_law_851 : decode cL_law 851 = .ok (.iadd, 1) := dk_96 (dk_at dksL_law_27 10 rfl rfl)
theorem dL_law_852 : decode cL_law 852 = .ok (.iaload, 1) := dk_46 (dk_at dksL_law_27 11 rfl rfl)
theorem dL_law_853 : decode cL_law 853 = .ok (.invokevirtual 101, 3) := dk_182 0 101 (dk_at dksL_law_27 12 rfl rfl)
theorem dL_law_856 : decode cL_law 856 = .ok (.if_icmp .eq 978, 3) := dk_159 3 210 (dk_at dksL_law_27 15 rfl rfl)
theorem dL_law_859 : decode cL_law 859 = .ok (.iconst 0, 1) := dk_3 (dk_at dksL_law_27 18 rfl rfl)
theorem dL_law_860 : decode cL_law 860 = .ok (.ireturn, 1) := dk_172 (dk_at dksL_law_27 19 rfl rfl)
theorem dL_law_861 : decode cL_law 861 = .ok (.aload_n 1, 1) := dk_43 (dk_at dksL_law_27 20 rfl rfl)
theorem dL_law_862 : decode cL_law 862 = .ok (.aload_n 0, 1) := dk_42 (dk_at dksL_law_27 21 rfl rfl)
theorem dL_law_863 : decode cL_law 863 = .ok (.iload_n 3, 1) := dk_29 (dk_at dksL_law_27 22 rfl rfl)
theorem dL_law_864 : decode cL_law 864 = .ok (.iconst 1, 1) := dk_4 (dk_at dksL_law_27 23 rfl rfl)
theorem dL_law_865 : decode cL_law 865 = .ok (.iadd, 1) := dk_96 (dk_at dksL_law_28 0 rfl rfl)
theorem dL_law_866 : decode cL_law 866 = .ok (.iaload, 1) := dk_46 (dk_at dksL_law_28 1 rfl rfl)
theorem dL_law_867 : decode cL_law 867 = .ok (.invokevirtual 102, 3) := dk_182 0 102 (dk_at dksL_law_28 2 rfl rfl)
theorem dL_law_870 : decode cL_law 870 = .ok (.aload_n 2, 1) := dk_44 (dk_at dksL_law_28 5 rfl rfl)
theorem dL_law_871 : decode cL_law 871 = .ok (.aload_n 0, 1) := dk_42 (dk_at dksL_law_28 6 rfl rfl)
theorem dL_law_872 : decode cL_law 872 = .ok (.iload_n 3, 1) := dk_29 (dk_at dksL_law_28 7 rfl rfl)
theorem dL_law_873 : decode cL_law 873 = .ok (.iconst 1, 1) := dk_4 (dk_at dksL_law_28 8 rfl rfl)
theorem dL_law_874 : decode cL_law 874 = .ok (.iadd, 1) := dk_96 (dk_at dksL_law_28 9 rfl rfl)
theorem dL_law_875 : decode cL_law 875 = .ok (.iaload, 1) := dk_46 (dk_at dksL_law_28 10 rfl rfl)
theorem dL_law_876 : decode cL_law 876 = .ok (.invokevirtual 105, 3) := dk_182 0 105 (dk_at dksL_law_28 11 rfl rfl)
theorem dL_law_879 : decode cL_law 879 = .ok (.if_icmp .eq 955, 3) := dk_159 3 187 (dk_at dksL_law_28 14 rfl rfl)
theorem dL_law_882 : decode cL_law 882 = .ok (.iconst 0, 1) := dk_3 (dk_at dksL_law_28 17 rfl rfl)
theorem dL_law_883 : decode cL_law 883 = .ok (.ireturn, 1) := dk_172 (dk_at dksL_law_28 18 rfl rfl)
theorem dL_law_884 : decode cL_law 884 = .ok (.aload_n 1, 1) := dk_43 (dk_at dksL_law_28 19 rfl rfl)
theorem dL_law_885 : decode cL_law 885 = .ok (.aload_n 0, 1) := dk_42 (dk_at dksL_law_28 20 rfl rfl)
theorem dL_law_886 : decode cL_law 886 = .ok (.iload_n 3, 1) := dk_29 (dk_at dksL_law_28 21 rfl rfl)
theorem dL_law_887 : decode cL_law 887 = .ok (.iconst 1, 1) := dk_4 (dk_at dksL_law_28 22 rfl rfl)
theorem dL_law_888 : decode cL_law 888 = .ok (.iadd, 1) := dk_96 (dk_at dksL_law_28 23 rfl rfl)
theorem dL_law_889 : decode cL_law 889 = .ok (.iaload, 1) := dk_46 (dk_at dksL_law_29 0 rfl rfl)
theorem dL_law_890 : decode cL_law 890 = .ok (.aload_n 0, 1) := dk_42 (dk_at dksL_law_29 1 rfl rfl)
theorem dL_law_891 : decode cL_law 891 = .ok (.iload_n 3, 1) := dk_29 (dk_at dksL_law_29 2 rfl rfl)
theorem dL_law_892 : decode cL_law 892 = .ok (.iconst 2, 1) := dk_5 (dk_at dksL_law_29 3 rfl rfl)
theorem dL_law_893 : decode cL_law 893 = .ok (.iadd, 1) := dk_96 (dk_at dksL_law_29 4 rfl rfl)
theorem dL_law_894 : decode cL_law 894 = .ok (.iaload, 1) := dk_46 (dk_at dksL_law_29 5 rfl rfl)
theorem dL_law_895 : decode cL_law 895 = .ok (.invokevirtual 106, 3) := dk_182 0 106 (dk_at dksL_law_29 6 rfl rfl)
theorem dL_law_898 : decode cL_law 898 = .ok (.aload_n 2, 1) := dk_44 (dk_at dksL_law_29 9 rfl rfl)
theorem dL_law_899 : decode cL_law 899 = .ok (.aload_n 0, 1) := dk_42 (dk_at dksL_law_29 10 rfl rfl)
theorem dL_law_900 : decode cL_law 900 = .ok (.iload_n 3, 1) := dk_29 (dk_at dksL_law_29 11 rfl rfl)
theorem dL_law_901 : decode cL_law 901 = .ok (.iconst 1, 1) := dk_4 (dk_at dksL_law_29 12 rfl rfl)
theorem dL_law_902 : decode cL_law 902 = .ok (.iadd, 1) := dk_96 (dk_at dksL_law_29 13 rfl rfl)
theorem dL_law_903 : decode cL_law 903 = .ok (.iaload, 1) := dk_46 (dk_at dksL_law_29 14 rfl rfl)
theorem dL_law_904 : decode cL_law 904 = .ok (.aload_n 0, 1) := dk_42 (dk_at dksL_law_29 15 rfl rfl)
theorem dL_law_905 : decode cL_law 905 = .ok (.iload_n 3, 1) := dk_29 (dk_at dksL_law_29 16 rfl rfl)
theorem dL_law_906 : decode cL_law 906 = .ok (.iconst 2, 1) := dk_5 (dk_at dksL_law_29 17 rfl rfl)
theorem dL_law_907 : decode cL_law 907 = .ok (.iadd, 1) := dk_96 (dk_at dksL_law_29 18 rfl rfl)
theorem dL_law_908 : decode cL_law 908 = .ok (.iaload, 1) := dk_46 (dk_at dksL_law_29 19 rfl rfl)
theorem dL_law_909 : decode cL_law 909 = .ok (.invokevirtual 109, 3) := dk_182 0 109 (dk_at dksL_law_29 20 rfl rfl)
theorem dL_law_912 : decode cL_law 912 = .ok (.if_icmp .eq 922, 3) := dk_159 3 154 (dk_at dksL_law_30 0 rfl rfl)
theorem dL_law_915 : decode cL_law 915 = .ok (.iconst 0, 1) := dk_3 (dk_at dksL_law_30 3 rfl rfl)
theorem dL_law_916 : decode cL_law 916 = .ok (.ireturn, 1) := dk_172 (dk_at dksL_law_30 4 rfl rfl)
theorem dL_law_917 : decode cL_law 917 = .ok (.aload_n 1, 1) := dk_43 (dk_at dksL_law_30 5 rfl rfl)
theorem dL_law_918 : decode cL_law 918 = .ok (.aload_n 0, 1) := dk_42 (dk_at dksL_law_30 6 rfl rfl)
theorem dL_law_919 : decode cL_law 919 = .ok (.iload_n 3, 1) := dk_29 (dk_at dksL_law_30 7 rfl rfl)
theorem dL_law_920 : decode cL_law 920 = .ok (.iconst 1, 1) := dk_4 (dk_at dksL_law_30 8 rfl rfl)
theorem dL_law_921 : decode cL_law 921 = .ok (.iadd, 1) := dk_96 (dk_at dksL_law_30 9 rfl rfl)
theorem dL_law_922 : decode cL_law 922 = .ok (.iaload, 1) := dk_46 (dk_at dksL_law_30 10 rfl rfl)
theorem dL_law_923 : decode cL_law 923 = .ok (.aload_n 0, 1) := dk_42 (dk_at dksL_law_30 11 rfl rfl)
theorem dL_law_924 : decode cL_law 924 = .ok (.iload_n 3, 1) := dk_29 (dk_at dksL_law_30 12 rfl rfl)
theorem dL_law_925 : decode cL_law 925 = .ok (.iconst 2, 1) := dk_5 (dk_at dksL_law_30 13 rfl rfl)
theorem dL_law_926 : decode cL_law 926 = .ok (.iadd, 1) := dk_96 (dk_at dksL_law_30 14 rfl rfl)
theorem dL_law_927 : decode cL_law 927 = .ok (.iaload, 1) := dk_46 (dk_at dksL_law_30 15 rfl rfl)
theorem dL_law_928 : decode cL_law 928 = .ok (.invokevirtual 110, 3) := dk_182 0 110 (dk_at dksL_law_30 16 rfl rfl)
theorem dL_law_931 : decode cL_law 931 = .ok (.aload_n 2, 1) := dk_44 (dk_at dksL_law_30 19 rfl rfl)
theorem dL_law_932 : decode cL_law 932 = .ok (.aload_n 0, 1) := dk_42 (dk_at dksL_law_30 20 rfl rfl)
theorem dL_law_933 : decode cL_law 933 = .ok (.iload_n 3, 1) := dk_29 (dk_at dksL_law_30 21 rfl rfl)
theorem dL_law_934 : decode cL_law 934 = .ok (.iconst 1, 1) := dk_4 (dk_at dksL_law_30 22 rfl rfl)
theorem dL_law_935 : decode cL_law 935 = .ok (.iadd, 1) := dk_96 (dk_at dksL_law_30 23 rfl rfl)
theorem dL_law_936 : decode cL_law 936 = .ok (.iaload, 1) := dk_46 (dk_at dksL_law_31 0 rfl rfl)
theorem dL_law_937 : decode cL_law 937 = .ok (.aload_n 0, 1) := dk_42 (dk_at dksL_law_31 1 rfl rfl)
theorem dL_law_938 : decode cL_law 938 = .ok (.iload_n 3, 1) := dk_29 (dk_at dksL_law_31 2 rfl rfl)
theorem dL_law_939 : decode cL_law 939 = .ok (.iconst 2, 1) := dk_5 (dk_at dksL_law_31 3 rfl rfl)
theorem dL_law_940 : decode cL_law 940 = .ok (.iadd, 1) := dk_96 (dk_at dksL_law_31 4 rfl rfl)
theorem dL_law_941 : decode cL_law 941 = .ok (.iaload, 1) := dk_46 (dk_at dksL_law_31 5 rfl rfl)
theorem dL_law_942 : decode cL_law 942 = .ok (.invokevirtual 113, 3) := dk_182 0 113 (dk_at dksL_law_31 6 rfl rfl)
theorem dL_law_945 : decode cL_law 945 = .ok (.if_icmp .eq 889, 3) := dk_159 3 121 (dk_at dksL_law_31 9 rfl rfl)
theorem dL_law_948 : decode cL_law 948 = .ok (.iconst 0, 1) := dk_3 (dk_at dksL_law_31 12 rfl rfl)
theorem dL_law_949 : decode cL_law 949 = .ok (.ireturn, 1) := dk_172 (dk_at dksL_law_31 13 rfl rfl)
theorem dL_law_950 : decode cL_law 950 = .ok (.aload_n 1, 1) := dk_43 (dk_at dksL_law_31 14 rfl rfl)
theorem dL_law_951 : decode cL_law 951 = .ok (.aload_n 0, 1) := dk_42 (dk_at dksL_law_31 15 rfl rfl)
theorem dL_law_952 : decode cL_law 952 = .ok (.iload_n 3, 1) := dk_29 (dk_at dksL_law_31 16 rfl rfl)
theorem dL_law_953 : decode cL_law 953 = .ok (.iconst 1, 1) := dk_4 (dk_at dksL_law_31 17 rfl rfl)
theorem dL_law_954 : decode cL_law 954 = .ok (.iadd, 1) := dk_96 (dk_at dksL_law_31 18 rfl rfl)
theorem dL_law_955 : decode cL_law 955 = .ok (.iaload, 1) := dk_46 (dk_at dksL_law_31 19 rfl rfl)
theorem dL_law_956 : decode cL_law 956 = .ok (.aload_n 0, 1) := dk_42 (dk_at dksL_law_31 20 rfl rfl)
theorem dL_law_957 : decode cL_law 957 = .ok (.iload_n 3, 1) := dk_29 (dk_at dksL_law_31 21 rfl rfl)
theorem dL_law_958 : decode cL_law 958 = .ok (.iconst 2, 1) := dk_5 (dk_at dksL_law_31 22 rfl rfl)
theorem dL_law_959 : decode cL_law 959 = .ok (.iadd, 1) := dk_96 (dk_at dksL_law_31 23 rfl rfl)
theorem dL_law_960 : decode cL_law 960 = .ok (.iaload, 1) := dk_46 (dk_at dksL_law_32 0 rfl rfl)
theorem dL_law_961 : decode cL_law 961 = .ok (.invokevirtual 114, 3) := dk_182 0 114 (dk_at dksL_law_32 1 rfl rfl)
theorem dL_law_964 : decode cL_law 964 = .ok (.aload_n 2, 1) := dk_44 (dk_at dksL_law_32 4 rfl rfl)
theorem dL_law_965 : decode cL_law 965 = .ok (.aload_n 0, 1) := dk_42 (dk_at dksL_law_32 5 rfl rfl)
theorem dL_law_966 : decode cL_law 966 = .ok (.iload_n 3, 1) := dk_29 (dk_at dksL_law_32 6 rfl rfl)
theorem dL_law_967 : decode cL_law 967 = .ok (.iconst 1, 1) := dk_4 (dk_at dksL_law_32 7 rfl rfl)
theorem dL_law_968 : decode cL_law 968 = .ok (.iadd, 1) := dk_96 (dk_at dksL_law_32 8 rfl rfl)
theorem dL_law_969 : decode cL_law 969 = .ok (.iaload, 1) := dk_46 (dk_at dksL_law_32 9 rfl rfl)
theorem dL_law_970 : decode cL_law 970 = .ok (.aload_n 0, 1) := dk_42 (dk_at dksL_law_32 10 rfl rfl)
theorem dL_law_971 : decode cL_law 971 = .ok (.iload_n 3, 1) := dk_29 (dk_at dksL_law_32 11 rfl rfl)
theorem dL_law_972 : decode cL_law 972 = .ok (.iconst 2, 1) := dk_5 (dk_at dksL_law_32 12 rfl rfl)
theorem dL_law_973 : decode cL_law 973 = .ok (.iadd, 1) := dk_96 (dk_at dksL_law_32 13 rfl rfl)
theorem dL_law_974 : decode cL_law 974 = .ok (.iaload, 1) := dk_46 (dk_at dksL_law_32 14 rfl rfl)
theorem dL_law_975 : decode cL_law 975 = .ok (.invokevirtual 117, 3) := dk_182 0 117 (dk_at dksL_law_32 15 rfl rfl)
theorem dL_law_978 : decode cL_law 978 = .ok (.if_icmp .eq 856, 3) := dk_159 3 88 (dk_at dksL_law_32 18 rfl rfl)
theorem dL_law_981 : decode cL_law 981 = .ok (.iconst 0, 1) := dk_3 (dk_at dksL_law_32 21 rfl rfl)
theorem dL_law_982 : decode cL_law 982 = .ok (.ireturn, 1) := dk_172 (dk_at dksL_law_32 22 rfl rfl)
theorem dL_law_983 : decode cL_law 983 = .ok (.aload_n 1, 1) := dk_43 (dk_at dksL_law_32 23 rfl rfl)
theorem dL_law_984 : decode cL_law 984 = .ok (.aload_n 0, 1) := dk_42 (dk_at dksL_law_33 0 rfl rfl)
theorem dL_law_985 : decode cL_law 985 = .ok (.iload_n 3, 1) := dk_29 (dk_at dksL_law_33 1 rfl rfl)
theorem dL_law_986 : decode cL_law 986 = .ok (.iconst 1, 1) := dk_4 (dk_at dksL_law_33 2 rfl rfl)
theorem dL_law_987 : decode cL_law 987 = .ok (.iadd, 1) := dk_96 (dk_at dksL_law_33 3 rfl rfl)
theorem dL_law_988 : decode cL_law 988 = .ok (.iaload, 1) := dk_46 (dk_at dksL_law_33 4 rfl rfl)
theorem dL_law_989 : decode cL_law 989 = .ok (.aload_n 0, 1) := dk_42 (dk_at dksL_law_33 5 rfl rfl)
theorem dL_law_990 : decode cL_law 990 = .ok (.iload_n 3, 1) := dk_29 (dk_at dksL_law_33 6 rfl rfl)
theorem dL_law_991 : decode cL_law 991 = .ok (.iconst 2, 1) := dk_5 (dk_at dksL_law_33 7 rfl rfl)
theorem dL_law_992 : decode cL_law 992 = .ok (.iadd, 1) := dk_96 (dk_at dksL_law_33 8 rfl rfl)
theorem dL_law_993 : decode cL_law 993 = .ok (.iaload, 1) := dk_46 (dk_at dksL_law_33 9 rfl rfl)
theorem dL_law_994 : decode cL_law 994 = .ok (.invokevirtual 118, 3) := dk_182 0 118 (dk_at dksL_law_33 10 rfl rfl)
theorem dL_law_997 : decode cL_law 997 = .ok (.aload_n 2, 1) := dk_44 (dk_at dksL_law_33 13 rfl rfl)
theorem dL_law_998 : decode cL_law 998 = .ok (.aload_n 0, 1) := dk_42 (dk_at dksL_law_33 14 rfl rfl)
theorem dL_law_999 : decode cL_law 999 = .ok (.iload_n 3, 1) := dk_29 (dk_at dksL_law_33 15 rfl rfl)
theorem dL_law_1000 : decode cL_law 1000 = .ok (.iconst 1, 1) := dk_4 (dk_at dksL_law_33 16 rfl rfl)
theorem dL_law_1001 : decode cL_law 1001 = .ok (.iadd, 1) := dk_96 (dk_at dksL_law_33 17 rfl rfl)
theorem dL_law_1002 : decode cL_law 1002 = .ok (.iaload, 1) := dk_46 (dk_at dksL_law_33 18 rfl rfl)
theorem dL_law_1003 : decode cL_law 1003 = .ok (.aload_n 0, 1) := dk_42 (dk_at dksL_law_33 19 rfl rfl)
theorem dL_law_1004 : decode cL_law 1004 = .ok (.iload_n 3, 1) := dk_29 (dk_at dksL_law_33 20 rfl rfl)
theorem dL_law_1005 : decode cL_law 1005 = .ok (.iconst 2, 1) := dk_5 (dk_at dksL_law_33 21 rfl rfl)
theorem dL_law_1006 : decode cL_law 1006 = .ok (.iadd, 1) := dk_96 (dk_at dksL_law_33 22 rfl rfl)
theorem dL_law_1007 : decode cL_law 1007 = .ok (.iaload, 1) := dk_46 (dk_at dksL_law_33 23 rfl rfl)
theorem dL_law_1008 : decode cL_law 1008 = .ok (.invokevirtual 121, 3) := dk_182 0 121 (dk_at dksL_law_34 0 rfl rfl)
theorem dL_law_1011 : decode cL_law 1011 = .ok (.if_icmp .eq 823, 3) := dk_159 3 55 (dk_at dksL_law_34 3 rfl rfl)
theorem dL_law_1014 : decode cL_law 1014 = .ok (.iconst 0, 1) := dk_3 (dk_at dksL_law_34 6 rfl rfl)
theorem dL_law_1015 : decode cL_law 1015 = .ok (.ireturn, 1) := dk_172 (dk_at dksL_law_34 7 rfl rfl)
theorem dL_law_1016 : decode cL_law 1016 = .ok (.aload_n 1, 1) := dk_43 (dk_at dksL_law_34 8 rfl rfl)
theorem dL_law_1017 : decode cL_law 1017 = .ok (.aload_n 0, 1) := dk_42 (dk_at dksL_law_34 9 rfl rfl)
theorem dL_law_1018 : decode cL_law 1018 = .ok (.iload_n 3, 1) := dk_29 (dk_at dksL_law_34 10 rfl rfl)
theorem dL_law_1019 : decode cL_law 1019 = .ok (.iconst 1, 1) := dk_4 (dk_at dksL_law_34 11 rfl rfl)
theorem dL_law_1020 : decode cL_law 1020 = .ok (.iadd, 1) := dk_96 (dk_at dksL_law_34 12 rfl rfl)
theorem dL_law_1021 : decode cL_law 1021 = .ok (.iaload, 1) := dk_46 (dk_at dksL_law_34 13 rfl rfl)
theorem dL_law_1022 : decode cL_law 1022 = .ok (.aload_n 0, 1) := dk_42 (dk_at dksL_law_34 14 rfl rfl)
theorem dL_law_1023 : decode cL_law 1023 = .ok (.iload_n 3, 1) := dk_29 (dk_at dksL_law_34 15 rfl rfl)
theorem dL_law_1024 : decode cL_law 1024 = .ok (.iconst 2, 1) := dk_5 (dk_at dksL_law_34 16 rfl rfl)
theorem dL_law_1025 : decode cL_law 1025 = .ok (.iadd, 1) := dk_96 (dk_at dksL_law_34 17 rfl rfl)
theorem dL_law_1026 : decode cL_law 1026 = .ok (.iaload, 1) := dk_46 (dk_at dksL_law_34 18 rfl rfl)
theorem dL_law_1027 : decode cL_law 1027 = .ok (.invokevirtual 122, 3) := dk_182 0 122 (dk_at dksL_law_34 19 rfl rfl)
theorem dL_law_1030 : decode cL_law 1030 = .ok (.aload_n 2, 1) := dk_44 (dk_at dksL_law_34 22 rfl rfl)
theorem dL_law_1031 : decode cL_law 1031 = .ok (.aload_n 0, 1) := dk_42 (dk_at dksL_law_34 23 rfl rfl)
theorem dL_law_1032 : decode cL_law 1032 = .ok (.iload_n 3, 1) := dk_29 (dk_at dksL_law_35 0 rfl rfl)
theorem dL_law_1033 : decode cL_law 1033 = .ok (.iconst 1, 1) := dk_4 (dk_at dksL_law_35 1 rfl rfl)
theorem dL_law_1034 : decode cL_law 1034 = .ok (.iadd, 1) := dk_96 (dk_at dksL_law_35 2 rfl rfl)
theorem dL_law_1035 : decode cL_law 1035 = .ok (.iaload, 1) := dk_46 (dk_at dksL_law_35 3 rfl rfl)
theorem dL_law_1036 : decode cL_law 1036 = .ok (.aload_n 0, 1) := dk_42 (dk_at dksL_law_35 4 rfl rfl)
theorem dL_law_1037 : decode cL_law 1037 = .ok (.iload_n 3, 1) := dk_29 (dk_at dksL_law_35 5 rfl rfl)
theorem dL_law_1038 : decode cL_law 1038 = .ok (.iconst 2, 1) := dk_5 (dk_at dksL_law_35 6 rfl rfl)
theorem dL_law_1039 : decode cL_law 1039 = .ok (.iadd, 1) := dk_96 (dk_at dksL_law_35 7 rfl rfl)
theorem dL_law_1040 : decode cL_law 1040 = .ok (.iaload, 1) := dk_46 (dk_at dksL_law_35 8 rfl rfl)
theorem dL_law_1041 : decode cL_law 1041 = .ok (.invokevirtual 125, 3) := dk_182 0 125 (dk_at dksL_law_35 9 rfl rfl)
theorem dL_law_1044 : decode cL_law 1044 = .ok (.if_icmp .eq 790, 3) := dk_159 3 22 (dk_at dksL_law_35 12 rfl rfl)
theorem dL_law_1047 : decode cL_law 1047 = .ok (.iconst 0, 1) := dk_3 (dk_at dksL_law_35 15 rfl rfl)
theorem dL_law_1048 : decode cL_law 1048 = .ok (.ireturn, 1) := dk_172 (dk_at dksL_law_35 16 rfl rfl)
theorem dL_law_1049 : decode cL_law 1049 = .ok (.aload_n 1, 1) := dk_43 (dk_at dksL_law_35 17 rfl rfl)
theorem dL_law_1050 : decode cL_law 1050 = .ok (.aload_n 0, 1) := dk_42 (dk_at dksL_law_35 18 rfl rfl)
theorem dL_law_1051 : decode cL_law 1051 = .ok (.iload_n 3, 1) := dk_29 (dk_at dksL_law_35 19 rfl rfl)
theorem dL_law_1052 : decode cL_law 1052 = .ok (.iconst 1, 1) := dk_4 (dk_at dksL_law_35 20 rfl rfl)
theorem dL_law_1053 : decode cL_law 1053 = .ok (.iadd, 1) := dk_96 (dk_at dksL_law_35 21 rfl rfl)
theorem dL_law_1054 : decode cL_law 1054 = .ok (.iaload, 1) := dk_46 (dk_at dksL_law_35 22 rfl rfl)
theorem dL_law_1055 : decode cL_law 1055 = .ok (.aload_n 0, 1) := dk_42 (dk_at dksL_law_35 23 rfl rfl)
theorem dL_law_1056 : decode cL_law 1056 = .ok (.iload_n 3, 1) := dk_29 (dk_at dksL_law_36 0 rfl rfl)
theorem dL_law_1057 : decode cL_law 1057 = .ok (.iconst 2, 1) := dk_5 (dk_at dksL_law_36 1 rfl rfl)
theorem dL_law_1058 : decode cL_law 1058 = .ok (.iadd, 1) := dk_96 (dk_at dksL_law_36 2 rfl rfl)
theorem dL_law_1059 : decode cL_law 1059 = .ok (.iaload, 1) := dk_46 (dk_at dksL_law_36 3 rfl rfl)
theorem dL_law_1060 : decode cL_law 1060 = .ok (.invokevirtual 126, 3) := dk_182 0 126 (dk_at dksL_law_36 4 rfl rfl)
theorem dL_law_1063 : decode cL_law 1063 = .ok (.aload_n 2, 1) := dk_44 (dk_at dksL_law_36 7 rfl rfl)
theorem dL_law_1064 : decode cL_law 1064 = .ok (.aload_n 0, 1) := dk_42 (dk_at dksL_law_36 8 rfl rfl)
theorem dL_law_1065 : decode cL_law 1065 = .ok (.iload_n 3, 1) := dk_29 (dk_at dksL_law_36 9 rfl rfl)
theorem dL_law_1066 : decode cL_law 1066 = .ok (.iconst 1, 1) := dk_4 (dk_at dksL_law_36 10 rfl rfl)
theorem dL_law_1067 : decode cL_law 1067 = .ok (.iadd, 1) := dk_96 (dk_at dksL_law_36 11 rfl rfl)
theorem dL_law_1068 : decode cL_law 1068 = .ok (.iaload, 1) := dk_46 (dk_at dksL_law_36 12 rfl rfl)
theorem dL_law_1069 : decode cL_law 1069 = .ok (.aload_n 0, 1) := dk_42 (dk_at dksL_law_36 13 rfl rfl)
theorem dL_law_1070 : decode cL_law 1070 = .ok (.iload_n 3, 1) := dk_29 (dk_at dksL_law_36 14 rfl rfl)
theorem dL_law_1071 : decode cL_law 1071 = .ok (.iconst 2, 1) := dk_5 (dk_at dksL_law_36 15 rfl rfl)
theorem dL_law_1072 : decode cL_law 1072 = .ok (.iadd, 1) := dk_96 (dk_at dksL_law_36 16 rfl rfl)
theorem dL_law_1073 : decode cL_law 1073 = .ok (.iaload, 1) := dk_46 (dk_at dksL_law_36 17 rfl rfl)
theorem dL_law_1074 : decode cL_law 1074 = .ok (.invokevirtual 129, 3) := dk_182 0 129 (dk_at dksL_law_36 18 rfl rfl)
theorem dL_law_1077 : decode cL_law 1077 = .ok (.if_icmp .eq 757, 3) := dk_159 2 245 (dk_at dksL_law_36 21 rfl rfl)
theorem dL_law_1080 : decode cL_law 1080 = .ok (.iconst 0, 1) := dk_3 (dk_at dksL_law_37 0 rfl rfl)
theorem dL_law_1081 : decode cL_law 1081 = .ok (.ireturn, 1) := dk_172 (dk_at dksL_law_37 1 rfl rfl)
theorem dL_law_1082 : decode cL_law 1082 = .ok (.aload_n 1, 1) := dk_43 (dk_at dksL_law_37 2 rfl rfl)
theorem dL_law_1083 : decode cL_law 1083 = .ok (.aload_n 0, 1) := dk_42 (dk_at dksL_law_37 3 rfl rfl)
theorem dL_law_1084 : decode cL_law 1084 = .ok (.iload_n 3, 1) := dk_29 (dk_at dksL_law_37 4 rfl rfl)
theorem dL_law_1085 : decode cL_law 1085 = .ok (.iconst 1, 1) := dk_4 (dk_at dksL_law_37 5 rfl rfl)
theorem dL_law_1086 : decode cL_law 1086 = .ok (.iadd, 1) := dk_96 (dk_at dksL_law_37 6 rfl rfl)
theorem dL_law_1087 : decode cL_law 1087 = .ok (.iaload, 1) := dk_46 (dk_at dksL_law_37 7 rfl rfl)
theorem dL_law_1088 : decode cL_law 1088 = .ok (.aload_n 0, 1) := dk_42 (dk_at dksL_law_37 8 rfl rfl)
theorem dL_law_1089 : decode cL_law 1089 = .ok (.iload_n 3, 1) := dk_29 (dk_at dksL_law_37 9 rfl rfl)
theorem dL_law_1090 : decode cL_law 1090 = .ok (.iconst 2, 1) := dk_5 (dk_at dksL_law_37 10 rfl rfl)
theorem dL_law_1091 : decode cL_law 1091 = .ok (.iadd, 1) := dk_96 (dk_at dksL_law_37 11 rfl rfl)
theorem dL_law_1092 : decode cL_law 1092 = .ok (.iaload, 1) := dk_46 (dk_at dksL_law_37 12 rfl rfl)
theorem dL_law_1093 : decode cL_law 1093 = .ok (.invokevirtual 130, 3) := dk_182 0 130 (dk_at dksL_law_37 13 rfl rfl)
theorem dL_law_1096 : decode cL_law 1096 = .ok (.aload_n 2, 1) := dk_44 (dk_at dksL_law_37 16 rfl rfl)
theorem dL_law_1097 : decode cL_law 1097 = .ok (.aload_n 0, 1) := dk_42 (dk_at dksL_law_37 17 rfl rfl)
theorem dL_law_1098 : decode cL_law 1098 = .ok (.iload_n 3, 1) := dk_29 (dk_at dksL_law_37 18 rfl rfl)
theorem dL_law_1099 : decode cL_law 1099 = .ok (.iconst 1, 1) := dk_4 (dk_at dksL_law_37 19 rfl rfl)
theorem dL_law_1100 : decode cL_law 1100 = .ok (.iadd, 1) := dk_96 (dk_at dksL_law_37 20 rfl rfl)
theorem dL_law_1101 : decode cL_law 1101 = .ok (.iaload, 1) := dk_46 (dk_at dksL_law_37 21 rfl rfl)
theorem dL_law_1102 : decode cL_law 1102 = .ok (.aload_n 0, 1) := dk_42 (dk_at dksL_law_37 22 rfl rfl)
theorem dL_law_1103 : decode cL_law 1103 = .ok (.iload_n 3, 1) := dk_29 (dk_at dksL_law_37 23 rfl rfl)
theorem dL_law_1104 : decode cL_law 1104 = .ok (.iconst 2, 1) := dk_5 (dk_at dksL_law_38 0 rfl rfl)
theorem dL_law_1105 : decode cL_law 1105 = .ok (.iadd, 1) := dk_96 (dk_at dksL_law_38 1 rfl rfl)
theorem dL_law_1106 : decode cL_law 1106 = .ok (.iaload, 1) := dk_46 (dk_at dksL_law_38 2 rfl rfl)
theorem dL_law_1107 : decode cL_law 1107 = .ok (.invokevirtual 133, 3) := dk_182 0 133 (dk_at dksL_law_38 3 rfl rfl)
theorem dL_law_1110 : decode cL_law 1110 = .ok (.if_icmp .eq 724, 3) := dk_159 2 212 (dk_at dksL_law_38 6 rfl rfl)
theorem dL_law_1113 : decode cL_law 1113 = .ok (.iconst 0, 1) := dk_3 (dk_at dksL_law_38 9 rfl rfl)
theorem dL_law_1114 : decode cL_law 1114 = .ok (.ireturn, 1) := dk_172 (dk_at dksL_law_38 10 rfl rfl)
theorem dL_law_1115 : decode cL_law 1115 = .ok (.aload_n 1, 1) := dk_43 (dk_at dksL_law_38 11 rfl rfl)
theorem dL_law_1116 : decode cL_law 1116 = .ok (.aload_n 0, 1) := dk_42 (dk_at dksL_law_38 12 rfl rfl)
theorem dL_law_1117 : decode cL_law 1117 = .ok (.iload_n 3, 1) := dk_29 (dk_at dksL_law_38 13 rfl rfl)
theorem dL_law_1118 : decode cL_law 1118 = .ok (.iconst 1, 1) := dk_4 (dk_at dksL_law_38 14 rfl rfl)
theorem dL_law_1119 : decode cL_law 1119 = .ok (.iadd, 1) := dk_96 (dk_at dksL_law_38 15 rfl rfl)
theorem dL_law_1120 : decode cL_law 1120 = .ok (.iaload, 1) := dk_46 (dk_at dksL_law_38 16 rfl rfl)
theorem dL_law_1121 : decode cL_law 1121 = .ok (.aload_n 0, 1) := dk_42 (dk_at dksL_law_38 17 rfl rfl)
theorem dL_law_1122 : decode cL_law 1122 = .ok (.iload_n 3, 1) := dk_29 (dk_at dksL_law_38 18 rfl rfl)
theorem dL_law_1123 : decode cL_law 1123 = .ok (.iconst 2, 1) := dk_5 (dk_at dksL_law_38 19 rfl rfl)
theorem dL_law_1124 : decode cL_law 1124 = .ok (.iadd, 1) := dk_96 (dk_at dksL_law_38 20 rfl rfl)
theorem dL_law_1125 : decode cL_law 1125 = .ok (.iaload, 1) := dk_46 (dk_at dksL_law_38 21 rfl rfl)
theorem dL_law_1126 : decode cL_law 1126 = .ok (.invokevirtual 134, 3) := dk_182 0 134 (dk_at dksL_law_39 0 rfl rfl)
theorem dL_law_1129 : decode cL_law 1129 = .ok (.aload_n 2, 1) := dk_44 (dk_at dksL_law_39 3 rfl rfl)
theorem dL_law_1130 : decode cL_law 1130 = .ok (.aload_n 0, 1) := dk_42 (dk_at dksL_law_39 4 rfl rfl)
theorem dL_law_1131 : decode cL_law 1131 = .ok (.iload_n 3, 1) := dk_29 (dk_at dksL_law_39 5 rfl rfl)
theorem dL_law_1132 : decode cL_law 1132 = .ok (.iconst 1, 1) := dk_4 (dk_at dksL_law_39 6 rfl rfl)
theorem dL_law_1133 : decode cL_law 1133 = .ok (.iadd, 1) := dk_96 (dk_at dksL_law_39 7 rfl rfl)
theorem dL_law_1134 : decode cL_law 1134 = .ok (.iaload, 1) := dk_46 (dk_at dksL_law_39 8 rfl rfl)
theorem dL_law_1135 : decode cL_law 1135 = .ok (.aload_n 0, 1) := dk_42 (dk_at dksL_law_39 9 rfl rfl)
theorem dL_law_1136 : decode cL_law 1136 = .ok (.iload_n 3, 1) := dk_29 (dk_at dksL_law_39 10 rfl rfl)
theorem dL_law_1137 : decode cL_law 1137 = .ok (.iconst 2, 1) := dk_5 (dk_at dksL_law_39 11 rfl rfl)
theorem dL_law_1138 : decode cL_law 1138 = .ok (.iadd, 1) := dk_96 (dk_at dksL_law_39 12 rfl rfl)
theorem dL_law_1139 : decode cL_law 1139 = .ok (.iaload, 1) := dk_46 (dk_at dksL_law_39 13 rfl rfl)
theorem dL_law_1140 : decode cL_law 1140 = .ok (.invokevirtual 137, 3) := dk_182 0 137 (dk_at dksL_law_39 14 rfl rfl)
theorem dL_law_1143 : decode cL_law 1143 = .ok (.if_icmp .eq 691, 3) := dk_159 2 179 (dk_at dksL_law_39 17 rfl rfl)
theorem dL_law_1146 : decode cL_law 1146 = .ok (.iconst 0, 1) := dk_3 (dk_at dksL_law_39 20 rfl rfl)
theorem dL_law_1147 : decode cL_law 1147 = .ok (.ireturn, 1) := dk_172 (dk_at dksL_law_39 21 rfl rfl)
theorem dL_law_1148 : decode cL_law 1148 = .ok (.aload_n 1, 1) := dk_43 (dk_at dksL_law_39 22 rfl rfl)
theorem dL_law_1149 : decode cL_law 1149 = .ok (.aload_n 0, 1) := dk_42 (dk_at dksL_law_39 23 rfl rfl)
theorem dL_law_1150 : decode cL_law 1150 = .ok (.iload_n 3, 1) := dk_29 (dk_at dksL_law_40 0 rfl rfl)
theorem dL_law_1151 : decode cL_law 1151 = .ok (.iconst 1, 1) := dk_4 (dk_at dksL_law_40 1 rfl rfl)
theorem dL_law_1152 : decode cL_law 1152 = .ok (.iadd, 1) := dk_96 (dk_at dksL_law_40 2 rfl rfl)
theorem dL_law_1153 : decode cL_law 1153 = .ok (.iaload, 1) := dk_46 (dk_at dksL_law_40 3 rfl rfl)
theorem dL_law_1154 : decode cL_law 1154 = .ok (.aload_n 0, 1) := dk_42 (dk_at dksL_law_40 4 rfl rfl)
theorem dL_law_1155 : decode cL_law 1155 = .ok (.iload_n 3, 1) := dk_29 (dk_at dksL_law_40 5 rfl rfl)
theorem dL_law_1156 : decode cL_law 1156 = .ok (.iconst 2, 1) := dk_5 (dk_at dksL_law_40 6 rfl rfl)
theorem dL_law_1157 : decode cL_law 1157 = .ok (.iadd, 1) := dk_96 (dk_at dksL_law_40 7 rfl rfl)
theorem dL_law_1158 : decode cL_law 1158 = .ok (.iaload, 1) := dk_46 (dk_at dksL_law_40 8 rfl rfl)
theorem dL_law_1159 : decode cL_law 1159 = .ok (.invokevirtual 138, 3) := dk_182 0 138 (dk_at dksL_law_40 9 rfl rfl)
theorem dL_law_1162 : decode cL_law 1162 = .ok (.aload_n 2, 1) := dk_44 (dk_at dksL_law_40 12 rfl rfl)
theorem dL_law_1163 : decode cL_law 1163 = .ok (.aload_n 0, 1) := dk_42 (dk_at dksL_law_40 13 rfl rfl)
theorem dL_law_1164 : decode cL_law 1164 = .ok (.iload_n 3, 1) := dk_29 (dk_at dksL_law_40 14 rfl rfl)
theorem dL_law_1165 : decode cL_law 1165 = .ok (.iconst 1, 1) := dk_4 (dk_at dksL_law_40 15 rfl rfl)
theorem dL_law_1166 : decode cL_law 1166 = .ok (.iadd, 1) := dk_96 (dk_at dksL_law_40 16 rfl rfl)
theorem dL_law_1167 : decode cL_law 1167 = .ok (.iaload, 1) := dk_46 (dk_at dksL_law_40 17 rfl rfl)
theorem dL_law_1168 : decode cL_law 1168 = .ok (.aload_n 0, 1) := dk_42 (dk_at dksL_law_40 18 rfl rfl)
theorem dL_law_1169 : decode cL_law 1169 = .ok (.iload_n 3, 1) := dk_29 (dk_at dksL_law_40 19 rfl rfl)
theorem dL_law_1170 : decode cL_law 1170 = .ok (.iconst 2, 1) := dk_5 (dk_at dksL_law_40 20 rfl rfl)
theorem dL_law_1171 : decode cL_law 1171 = .ok (.iadd, 1) := dk_96 (dk_at dksL_law_40 21 rfl rfl)
theorem dL_law_1172 : decode cL_law 1172 = .ok (.iaload, 1) := dk_46 (dk_at dksL_law_40 22 rfl rfl)
theorem dL_law_1173 : decode cL_law 1173 = .ok (.invokevirtual 141, 3) := dk_182 0 141 (dk_at dksL_law_41 0 rfl rfl)
theorem dL_law_1176 : decode cL_law 1176 = .ok (.if_icmp .eq 658, 3) := dk_159 2 146 (dk_at dksL_law_41 3 rfl rfl)
theorem dL_law_1179 : decode cL_law 1179 = .ok (.iconst 0, 1) := dk_3 (dk_at dksL_law_41 6 rfl rfl)
theorem dL_law_1180 : decode cL_law 1180 = .ok (.ireturn, 1) := dk_172 (dk_at dksL_law_41 7 rfl rfl)
theorem dL_law_1181 : decode cL_law 1181 = .ok (.aload_n 1, 1) := dk_43 (dk_at dksL_law_41 8 rfl rfl)
theorem dL_law_1182 : decode cL_law 1182 = .ok (.aload_n 0, 1) := dk_42 (dk_at dksL_law_41 9 rfl rfl)
theorem dL_law_1183 : decode cL_law 1183 = .ok (.iload_n 3, 1) := dk_29 (dk_at dksL_law_41 10 rfl rfl)
theorem dL_law_1184 : decode cL_law 1184 = .ok (.iconst 1, 1) := dk_4 (dk_at dksL_law_41 11 rfl rfl)
theorem dL_law_1185 : decode cL_law 1185 = .ok (.iadd, 1) := dk_96 (dk_at dksL_law_41 12 rfl rfl)
theorem dL_law_1186 : decode cL_law 1186 = .ok (.iaload, 1) := dk_46 (dk_at dksL_law_41 13 rfl rfl)
theorem dL_law_1187 : decode cL_law 1187 = .ok (.aload_n 0, 1) := dk_42 (dk_at dksL_law_41 14 rfl rfl)
theorem dL_law_1188 : decode cL_law 1188 = .ok (.iload_n 3, 1) := dk_29 (dk_at dksL_law_41 15 rfl rfl)
theorem dL_law_1189 : decode cL_law 1189 = .ok (.iconst 2, 1) := dk_5 (dk_at dksL_law_41 16 rfl rfl)
theorem dL_law_1190 : decode cL_law 1190 = .ok (.iadd, 1) := dk_96 (dk_at dksL_law_41 17 rfl rfl)
theorem dL_law_1191 : decode cL_law 1191 = .ok (.iaload, 1) := dk_46 (dk_at dksL_law_41 18 rfl rfl)
theorem dL_law_1192 : decode cL_law 1192 = .ok (.invokevirtual 142, 3) := dk_182 0 142 (dk_at dksL_law_41 19 rfl rfl)
theorem dL_law_1195 : decode cL_law 1195 = .ok (.aload_n 2, 1) := dk_44 (dk_at dksL_law_41 22 rfl rfl)
theorem dL_law_1196 : decode cL_law 1196 = .ok (.aload_n 0, 1) := dk_42 (dk_at dksL_law_41 23 rfl rfl)
theorem dL_law_1197 : decode cL_law 1197 = .ok (.iload_n 3, 1) := dk_29 (dk_at dksL_law_42 0 rfl rfl)
theorem dL_law_1198 : decode cL_law 1198 = .ok (.iconst 1, 1) := dk_4 (dk_at dksL_law_42 1 rfl rfl)
theorem dL_law_1199 : decode cL_law 1199 = .ok (.iadd, 1) := dk_96 (dk_at dksL_law_42 2 rfl rfl)
theorem dL_law_1200 : decode cL_law 1200 = .ok (.iaload, 1) := dk_46 (dk_at dksL_law_42 3 rfl rfl)
theorem dL_law_1201 : decode cL_law 1201 = .ok (.aload_n 0, 1) := dk_42 (dk_at dksL_law_42 4 rfl rfl)
theorem dL_law_1202 : decode cL_law 1202 = .ok (.iload_n 3, 1) := dk_29 (dk_at dksL_law_42 5 rfl rfl)
theorem dL_law_1203 : decode cL_law 1203 = .ok (.iconst 2, 1) := dk_5 (dk_at dksL_law_42 6 rfl rfl)
theorem dL_law_1204 : decode cL_law 1204 = .ok (.iadd, 1) := dk_96 (dk_at dksL_law_42 7 rfl rfl)
theorem dL_law_1205 : decode cL_law 1205 = .ok (.iaload, 1) := dk_46 (dk_at dksL_law_42 8 rfl rfl)
theorem dL_law_1206 : decode cL_law 1206 = .ok (.invokevirtual 145, 3) := dk_182 0 145 (dk_at dksL_law_42 9 rfl rfl)
theorem dL_law_1209 : decode cL_law 1209 = .ok (.if_icmp .eq 625, 3) := dk_159 2 113 (dk_at dksL_law_42 12 rfl rfl)
theorem dL_law_1212 : decode cL_law 1212 = .ok (.iconst 0, 1) := dk_3 (dk_at dksL_law_42 15 rfl rfl)
theorem dL_law_1213 : decode cL_law 1213 = .ok (.ireturn, 1) := dk_172 (dk_at dksL_law_42 16 rfl rfl)
theorem dL_law_1214 : decode cL_law 1214 = .ok (.aload_n 1, 1) := dk_43 (dk_at dksL_law_42 17 rfl rfl)
theorem dL_law_1215 : decode cL_law 1215 = .ok (.aload_n 0, 1) := dk_42 (dk_at dksL_law_42 18 rfl rfl)
theorem dL_law_1216 : decode cL_law 1216 = .ok (.iload_n 3, 1) := dk_29 (dk_at dksL_law_42 19 rfl rfl)
theorem dL_law_1217 : decode cL_law 1217 = .ok (.iconst 1, 1) := dk_4 (dk_at dksL_law_42 20 rfl rfl)
theorem dL_law_1218 : decode cL_law 1218 = .ok (.iadd, 1) := dk_96 (dk_at dksL_law_42 21 rfl rfl)
theorem dL_law_1219 : decode cL_law 1219 = .ok (.iaload, 1) := dk_46 (dk_at dksL_law_42 22 rfl rfl)
theorem dL_law_1220 : decode cL_law 1220 = .ok (.aload_n 0, 1) := dk_42 (dk_at dksL_law_42 23 rfl rfl)
theorem dL_law_1221 : decode cL_law 1221 = .ok (.iload_n 3, 1) := dk_29 (dk_at dksL_law_43 0 rfl rfl)
theorem dL_law_1222 : decode cL_law 1222 = .ok (.iconst 2, 1) := dk_5 (dk_at dksL_law_43 1 rfl rfl)
theorem dL_law_1223 : decode cL_law 1223 = .ok (.iadd, 1) := dk_96 (dk_at dksL_law_43 2 rfl rfl)
theorem dL_law_1224 : decode cL_law 1224 = .ok (.iaload, 1) := dk_46 (dk_at dksL_law_43 3 rfl rfl)
theorem dL_law_1225 : decode cL_law 1225 = .ok (.invokevirtual 146, 3) := dk_182 0 146 (dk_at dksL_law_43 4 rfl rfl)
theorem dL_law_1228 : decode cL_law 1228 = .ok (.aload_n 2, 1) := dk_44 (dk_at dksL_law_43 7 rfl rfl)
theorem dL_law_1229 : decode cL_law 1229 = .ok (.aload_n 0, 1) := dk_42 (dk_at dksL_law_43 8 rfl rfl)
theorem dL_law_1230 : decode cL_law 1230 = .ok (.iload_n 3, 1) := dk_29 (dk_at dksL_law_43 9 rfl rfl)
theorem dL_law_1231 : decode cL_law 1231 = .ok (.iconst 1, 1) := dk_4 (dk_at dksL_law_43 10 rfl rfl)
theorem dL_law_1232 : decode cL_law 1232 = .ok (.iadd, 1) := dk_96 (dk_at dksL_law_43 11 rfl rfl)
theorem dL_law_1233 : decode cL_law 1233 = .ok (.iaload, 1) := dk_46 (dk_at dksL_law_43 12 rfl rfl)
theorem dL_law_1234 : decode cL_law 1234 = .ok (.aload_n 0, 1) := dk_42 (dk_at dksL_law_43 13 rfl rfl)
theorem dL_law_1235 : decode cL_law 1235 = .ok (.iload_n 3, 1) := dk_29 (dk_at dksL_law_43 14 rfl rfl)
theorem dL_law_1236 : decode cL_law 1236 = .ok (.iconst 2, 1) := dk_5 (dk_at dksL_law_43 15 rfl rfl)
theorem dL_law_1237 : decode cL_law 1237 = .ok (.iadd, 1) := dk_96 (dk_at dksL_law_43 16 rfl rfl)
theorem dL_law_1238 : decode cL_law 1238 = .ok (.iaload, 1) := dk_46 (dk_at dksL_law_43 17 rfl rfl)
theorem dL_law_1239 : decode cL_law 1239 = .ok (.invokevirtual 149, 3) := dk_182 0 149 (dk_at dksL_law_43 18 rfl rfl)
theorem dL_law_1242 : decode cL_law 1242 = .ok (.if_icmp .eq 592, 3) := dk_159 2 80 (dk_at dksL_law_43 21 rfl rfl)
theorem dL_law_1245 : decode cL_law 1245 = .ok (.iconst 0, 1) := dk_3 (dk_at dksL_law_44 0 rfl rfl)
theorem dL_law_1246 : decode cL_law 1246 = .ok (.ireturn, 1) := dk_172 (dk_at dksL_law_44 1 rfl rfl)
theorem dL_law_1247 : decode cL_law 1247 = .ok (.aload_n 1, 1) := dk_43 (dk_at dksL_law_44 2 rfl rfl)
theorem dL_law_1248 : decode cL_law 1248 = .ok (.aload_n 0, 1) := dk_42 (dk_at dksL_law_44 3 rfl rfl)
theorem dL_law_1249 : decode cL_law 1249 = .ok (.iload_n 3, 1) := dk_29 (dk_at dksL_law_44 4 rfl rfl)
theorem dL_law_1250 : decode cL_law 1250 = .ok (.iconst 1, 1) := dk_4 (dk_at dksL_law_44 5 rfl rfl)
theorem dL_law_1251 : decode cL_law 1251 = .ok (.iadd, 1) := dk_96 (dk_at dksL_law_44 6 rfl rfl)
theorem dL_law_1252 : decode cL_law 1252 = .ok (.iaload, 1) := dk_46 (dk_at dksL_law_44 7 rfl rfl)
theorem dL_law_1253 : decode cL_law 1253 = .ok (.aload_n 0, 1) := dk_42 (dk_at dksL_law_44 8 rfl rfl)
theorem dL_law_1254 : decode cL_law 1254 = .ok (.iload_n 3, 1) := dk_29 (dk_at dksL_law_44 9 rfl rfl)
theorem dL_law_1255 : decode cL_law 1255 = .ok (.iconst 2, 1) := dk_5 (dk_at dksL_law_44 10 rfl rfl)
theorem dL_law_1256 : decode cL_law 1256 = .ok (.iadd, 1) := dk_96 (dk_at dksL_law_44 11 rfl rfl)
theorem dL_law_1257 : decode cL_law 1257 = .ok (.iaload, 1) := dk_46 (dk_at dksL_law_44 12 rfl rfl)
theorem dL_law_1258 : decode cL_law 1258 = .ok (.invokevirtual 150, 3) := dk_182 0 150 (dk_at dksL_law_44 13 rfl rfl)
theorem dL_law_1261 : decode cL_law 1261 = .ok (.aload_n 2, 1) := dk_44 (dk_at dksL_law_44 16 rfl rfl)
theorem dL_law_1262 : decode cL_law 1262 = .ok (.aload_n 0, 1) := dk_42 (dk_at dksL_law_44 17 rfl rfl)
theorem dL_law_1263 : decode cL_law 1263 = .ok (.iload_n 3, 1) := dk_29 (dk_at dksL_law_44 18 rfl rfl)
theorem dL_law_1264 : decode cL_law 1264 = .ok (.iconst 1, 1) := dk_4 (dk_at dksL_law_44 19 rfl rfl)
theorem dL_law_1265 : decode cL_law 1265 = .ok (.iadd, 1) := dk_96 (dk_at dksL_law_44 20 rfl rfl)
theorem dL_law_1266 : decode cL_law 1266 = .ok (.iaload, 1) := dk_46 (dk_at dksL_law_44 21 rfl rfl)
theorem dL_law_1267 : decode cL_law 1267 = .ok (.aload_n 0, 1) := dk_42 (dk_at dksL_law_44 22 rfl rfl)
theorem dL_law_1268 : decode cL_law 1268 = .ok (.iload_n 3, 1) := dk_29 (dk_at dksL_law_44 23 rfl rfl)
theorem dL_law_1269 : decode cL_law 1269 = .ok (.iconst 2, 1) := dk_5 (dk_at dksL_law_45 0 rfl rfl)
theorem dL_law_1270 : decode cL_law 1270 = .ok (.iadd, 1) := dk_96 (dk_at dksL_law_45 1 rfl rfl)
theorem dL_law_1271 : decode cL_law 1271 = .ok (.iaload, 1) := dk_46 (dk_at dksL_law_45 2 rfl rfl)
theorem dL_law_1272 : decode cL_law 1272 = .ok (.invokevirtual 154, 3) := dk_182 0 154 (dk_at dksL_law_45 3 rfl rfl)
theorem dL_law_1275 : decode cL_law 1275 = .ok (.lcmp, 1) := dk_148 (dk_at dksL_law_45 6 rfl rfl)
theorem dL_law_1276 : decode cL_law 1276 = .ok (.ifCond .eq 558, 3) := dk_153 2 46 (dk_at dksL_law_45 7 rfl rfl)
theorem dL_law_1279 : decode cL_law 1279 = .ok (.iconst 0, 1) := dk_3 (dk_at dksL_law_45 10 rfl rfl)
theorem dL_law_1280 : decode cL_law 1280 = .ok (.ireturn, 1) := dk_172 (dk_at dksL_law_45 11 rfl rfl)
theorem dL_law_1281 : decode cL_law 1281 = .ok (.aload_n 1, 1) := dk_43 (dk_at dksL_law_45 12 rfl rfl)
theorem dL_law_1282 : decode cL_law 1282 = .ok (.aload_n 0, 1) := dk_42 (dk_at dksL_law_45 13 rfl rfl)
theorem dL_law_1283 : decode cL_law 1283 = .ok (.iload_n 3, 1) := dk_29 (dk_at dksL_law_45 14 rfl rfl)
theorem dL_law_1284 : decode cL_law 1284 = .ok (.iconst 1, 1) := dk_4 (dk_at dksL_law_45 15 rfl rfl)
theorem dL_law_1285 : decode cL_law 1285 = .ok (.iadd, 1) := dk_96 (dk_at dksL_law_45 16 rfl rfl)
theorem dL_law_1286 : decode cL_law 1286 = .ok (.iaload, 1) := dk_46 (dk_at dksL_law_45 17 rfl rfl)
theorem dL_law_1287 : decode cL_law 1287 = .ok (.invokevirtual 155, 3) := dk_182 0 155 (dk_at dksL_law_45 18 rfl rfl)
theorem dL_law_1290 : decode cL_law 1290 = .ok (.aload_n 2, 1) := dk_44 (dk_at dksL_law_45 21 rfl rfl)
theorem dL_law_1291 : decode cL_law 1291 = .ok (.aload_n 0, 1) := dk_42 (dk_at dksL_law_45 22 rfl rfl)
theorem dL_law_1292 : decode cL_law 1292 = .ok (.iload_n 3, 1) := dk_29 (dk_at dksL_law_45 23 rfl rfl)
theorem dL_law_1293 : decode cL_law 1293 = .ok (.iconst 1, 1) := dk_4 (dk_at dksL_law_46 0 rfl rfl)
theorem dL_law_1294 : decode cL_law 1294 = .ok (.iadd, 1) := dk_96 (dk_at dksL_law_46 1 rfl rfl)
theorem dL_law_1295 : decode cL_law 1295 = .ok (.iaload, 1) := dk_46 (dk_at dksL_law_46 2 rfl rfl)
theorem dL_law_1296 : decode cL_law 1296 = .ok (.invokevirtual 158, 3) := dk_182 0 158 (dk_at dksL_law_46 3 rfl rfl)
theorem dL_law_1299 : decode cL_law 1299 = .ok (.if_icmp .eq 535, 3) := dk_159 2 23 (dk_at dksL_law_46 6 rfl rfl)
theorem dL_law_1302 : decode cL_law 1302 = .ok (.iconst 0, 1) := dk_3 (dk_at dksL_law_46 9 rfl rfl)
theorem dL_law_1303 : decode cL_law 1303 = .ok (.ireturn, 1) := dk_172 (dk_at dksL_law_46 10 rfl rfl)
theorem dL_law_1304 : decode cL_law 1304 = .ok (.aload_n 1, 1) := dk_43 (dk_at dksL_law_46 11 rfl rfl)
theorem dL_law_1305 : decode cL_law 1305 = .ok (.aload_n 0, 1) := dk_42 (dk_at dksL_law_46 12 rfl rfl)
theorem dL_law_1306 : decode cL_law 1306 = .ok (.iload_n 3, 1) := dk_29 (dk_at dksL_law_46 13 rfl rfl)
theorem dL_law_1307 : decode cL_law 1307 = .ok (.iconst 1, 1) := dk_4 (dk_at dksL_law_46 14 rfl rfl)
theorem dL_law_1308 : decode cL_law 1308 = .ok (.iadd, 1) := dk_96 (dk_at dksL_law_46 15 rfl rfl)
theorem dL_law_1309 : decode cL_law 1309 = .ok (.iaload, 1) := dk_46 (dk_at dksL_law_46 16 rfl rfl)
theorem dL_law_1310 : decode cL_law 1310 = .ok (.aload_n 0, 1) := dk_42 (dk_at dksL_law_46 17 rfl rfl)
theorem dL_law_1311 : decode cL_law 1311 = .ok (.iload_n 3, 1) := dk_29 (dk_at dksL_law_46 18 rfl rfl)
theorem dL_law_1312 : decode cL_law 1312 = .ok (.iconst 2, 1) := dk_5 (dk_at dksL_law_46 19 rfl rfl)
theorem dL_law_1313 : decode cL_law 1313 = .ok (.iadd, 1) := dk_96 (dk_at dksL_law_46 20 rfl rfl)
theorem dL_law_1314 : decode cL_law 1314 = .ok (.iaload, 1) := dk_46 (dk_at dksL_law_46 21 rfl rfl)
theorem dL_law_1315 : decode cL_law 1315 = .ok (.invokevirtual 159, 3) := dk_182 0 159 (dk_at dksL_law_47 0 rfl rfl)
theorem dL_law_1318 : decode cL_law 1318 = .ok (.aload_n 2, 1) := dk_44 (dk_at dksL_law_47 3 rfl rfl)
theorem dL_law_1319 : decode cL_law 1319 = .ok (.aload_n 0, 1) := dk_42 (dk_at dksL_law_47 4 rfl rfl)
theorem dL_law_1320 : decode cL_law 1320 = .ok (.iload_n 3, 1) := dk_29 (dk_at dksL_law_47 5 rfl rfl)
theorem dL_law_1321 : decode cL_law 1321 = .ok (.iconst 1, 1) := dk_4 (dk_at dksL_law_47 6 rfl rfl)
theorem dL_law_1322 : decode cL_law 1322 = .ok (.iadd, 1) := dk_96 (dk_at dksL_law_47 7 rfl rfl)
theorem dL_law_1323 : decode cL_law 1323 = .ok (.iaload, 1) := dk_46 (dk_at dksL_law_47 8 rfl rfl)
theorem dL_law_1324 : decode cL_law 1324 = .ok (.aload_n 0, 1) := dk_42 (dk_at dksL_law_47 9 rfl rfl)
theorem dL_law_1325 : decode cL_law 1325 = .ok (.iload_n 3, 1) := dk_29 (dk_at dksL_law_47 10 rfl rfl)
theorem dL_law_1326 : decode cL_law 1326 = .ok (.iconst 2, 1) := dk_5 (dk_at dksL_law_47 11 rfl rfl)
theorem dL_law_1327 : decode cL_law 1327 = .ok (.iadd, 1) := dk_96 (dk_at dksL_law_47 12 rfl rfl)
theorem dL_law_1328 : decode cL_law 1328 = .ok (.iaload, 1) := dk_46 (dk_at dksL_law_47 13 rfl rfl)
theorem dL_law_1329 : decode cL_law 1329 = .ok (.invokevirtual 162, 3) := dk_182 0 162 (dk_at dksL_law_47 14 rfl rfl)
theorem dL_law_1332 : decode cL_law 1332 = .ok (.if_icmp .eq 502, 3) := dk_159 1 246 (dk_at dksL_law_47 17 rfl rfl)
theorem dL_law_1335 : decode cL_law 1335 = .ok (.iconst 0, 1) := dk_3 (dk_at dksL_law_47 20 rfl rfl)
theorem dL_law_1336 : decode cL_law 1336 = .ok (.ireturn, 1) := dk_172 (dk_at dksL_law_47 21 rfl rfl)
theorem dL_law_1337 : decode cL_law 1337 = .ok (.aload_n 1, 1) := dk_43 (dk_at dksL_law_47 22 rfl rfl)
theorem dL_law_1338 : decode cL_law 1338 = .ok (.aload_n 0, 1) := dk_42 (dk_at dksL_law_47 23 rfl rfl)
theorem dL_law_1339 : decode cL_law 1339 = .ok (.iload_n 3, 1) := dk_29 (dk_at dksL_law_48 0 rfl rfl)
theorem dL_law_1340 : decode cL_law 1340 = .ok (.iconst 1, 1) := dk_4 (dk_at dksL_law_48 1 rfl rfl)
theorem dL_law_1341 : decode cL_law 1341 = .ok (.iadd, 1) := dk_96 (dk_at dksL_law_48 2 rfl rfl)
theorem dL_law_1342 : decode cL_law 1342 = .ok (.iaload, 1) := dk_46 (dk_at dksL_law_48 3 rfl rfl)
theorem dL_law_1343 : decode cL_law 1343 = .ok (.invokevirtual 163, 3) := dk_182 0 163 (dk_at dksL_law_48 4 rfl rfl)
theorem dL_law_1346 : decode cL_law 1346 = .ok (.aload_n 2, 1) := dk_44 (dk_at dksL_law_48 7 rfl rfl)
theorem dL_law_1347 : decode cL_law 1347 = .ok (.aload_n 0, 1) := dk_42 (dk_at dksL_law_48 8 rfl rfl)
theorem dL_law_1348 : decode cL_law 1348 = .ok (.iload_n 3, 1) := dk_29 (dk_at dksL_law_48 9 rfl rfl)
theorem dL_law_1349 : decode cL_law 1349 = .ok (.iconst 1, 1) := dk_4 (dk_at dksL_law_48 10 rfl rfl)
theorem dL_law_1350 : decode cL_law 1350 = .ok (.iadd, 1) := dk_96 (dk_at dksL_law_48 11 rfl rfl)
theorem dL_law_1351 : decode cL_law 1351 = .ok (.iaload, 1) := dk_46 (dk_at dksL_law_48 12 rfl rfl)
theorem dL_law_1352 : decode cL_law 1352 = .ok (.invokevirtual 166, 3) := dk_182 0 166 (dk_at dksL_law_48 13 rfl rfl)
theorem dL_law_1355 : decode cL_law 1355 = .ok (.if_icmp .eq 479, 3) := dk_159 1 223 (dk_at dksL_law_48 16 rfl rfl)
theorem dL_law_1358 : decode cL_law 1358 = .ok (.iconst 0, 1) := dk_3 (dk_at dksL_law_48 19 rfl rfl)
theorem dL_law_1359 : decode cL_law 1359 = .ok (.ireturn, 1) := dk_172 (dk_at dksL_law_48 20 rfl rfl)
theorem dL_law_1360 : decode cL_law 1360 = .ok (.aload_n 1, 1) := dk_43 (dk_at dksL_law_48 21 rfl rfl)
theorem dL_law_1361 : decode cL_law 1361 = .ok (.aload_n 0, 1) := dk_42 (dk_at dksL_law_48 22 rfl rfl)
theorem dL_law_1362 : decode cL_law 1362 = .ok (.iload_n 3, 1) := dk_29 (dk_at dksL_law_48 23 rfl rfl)
theorem dL_law_1363 : decode cL_law 1363 = .ok (.iconst 1, 1) := dk_4 (dk_at dksL_law_49 0 rfl rfl)
theorem dL_law_1364 : decode cL_law 1364 = .ok (.iadd, 1) := dk_96 (dk_at dksL_law_49 1 rfl rfl)
theorem dL_law_1365 : decode cL_law 1365 = .ok (.iaload, 1) := dk_46 (dk_at dksL_law_49 2 rfl rfl)
theorem dL_law_1366 : decode cL_law 1366 = .ok (.invokevirtual 167, 3) := dk_182 0 167 (dk_at dksL_law_49 3 rfl rfl)
theorem dL_law_1369 : decode cL_law 1369 = .ok (.aload_n 2, 1) := dk_44 (dk_at dksL_law_49 6 rfl rfl)
theorem dL_law_1370 : decode cL_law 1370 = .ok (.aload_n 0, 1) := dk_42 (dk_at dksL_law_49 7 rfl rfl)
theorem dL_law_1371 : decode cL_law 1371 = .ok (.iload_n 3, 1) := dk_29 (dk_at dksL_law_49 8 rfl rfl)
theorem dL_law_1372 : decode cL_law 1372 = .ok (.iconst 1, 1) := dk_4 (dk_at dksL_law_49 9 rfl rfl)
theorem dL_law_1373 : decode cL_law 1373 = .ok (.iadd, 1) := dk_96 (dk_at dksL_law_49 10 rfl rfl)
theorem dL_law_1374 : decode cL_law 1374 = .ok (.iaload, 1) := dk_46 (dk_at dksL_law_49 11 rfl rfl)
theorem dL_law_1375 : decode cL_law 1375 = .ok (.invokevirtual 170, 3) := dk_182 0 170 (dk_at dksL_law_49 12 rfl rfl)
theorem dL_law_1378 : decode cL_law 1378 = .ok (.if_icmp .eq 456, 3) := dk_159 1 200 (dk_at dksL_law_49 15 rfl rfl)
theorem dL_law_1381 : decode cL_law 1381 = .ok (.iconst 0, 1) := dk_3 (dk_at dksL_law_49 18 rfl rfl)
theorem dL_law_1382 : decode cL_law 1382 = .ok (.ireturn, 1) := dk_172 (dk_at dksL_law_49 19 rfl rfl)
theorem dL_law_1383 : decode cL_law 1383 = .ok (.aload_n 1, 1) := dk_43 (dk_at dksL_law_49 20 rfl rfl)
theorem dL_law_1384 : decode cL_law 1384 = .ok (.aload_n 0, 1) := dk_42 (dk_at dksL_law_49 21 rfl rfl)
theorem dL_law_1385 : decode cL_law 1385 = .ok (.iload_n 3, 1) := dk_29 (dk_at dksL_law_49 22 rfl rfl)
theorem dL_law_1386 : decode cL_law 1386 = .ok (.iconst 1, 1) := dk_4 (dk_at dksL_law_49 23 rfl rfl)
theorem dL_law_1387 : decode cL_law 1387 = .ok (.iadd, 1) := dk_96 (dk_at dksL_law_50 0 rfl rfl)
theorem dL_law_1388 : decode cL_law 1388 = .ok (.iaload, 1) := dk_46 (dk_at dksL_law_50 1 rfl rfl)
theorem dL_law_1389 : decode cL_law 1389 = .ok (.aload_n 0, 1) := dk_42 (dk_at dksL_law_50 2 rfl rfl)
theorem dL_law_1390 : decode cL_law 1390 = .ok (.iload_n 3, 1) := dk_29 (dk_at dksL_law_50 3 rfl rfl)
theorem dL_law_1391 : decode cL_law 1391 = .ok (.iconst 2, 1) := dk_5 (dk_at dksL_law_50 4 rfl rfl)
theorem dL_law_1392 : decode cL_law 1392 = .ok (.iadd, 1) := dk_96 (dk_at dksL_law_50 5 rfl rfl)
theorem dL_law_1393 : decode cL_law 1393 = .ok (.iaload, 1) := dk_46 (dk_at dksL_law_50 6 rfl rfl)
theorem dL_law_1394 : decode cL_law 1394 = .ok (.invokevirtual 171, 3) := dk_182 0 171 (dk_at dksL_law_50 7 rfl rfl)
theorem dL_law_1397 : decode cL_law 1397 = .ok (.aload_n 2, 1) := dk_44 (dk_at dksL_law_50 10 rfl rfl)
theorem dL_law_1398 : decode cL_law 1398 = .ok (.aload_n 0, 1) := dk_42 (dk_at dksL_law_50 11 rfl rfl)
theorem dL_law_1399 : decode cL_law 1399 = .ok (.iload_n 3, 1) := dk_29 (dk_at dksL_law_50 12 rfl rfl)
theorem dL_law_1400 : decode cL_law 1400 = .ok (.iconst 1, 1) := dk_4 (dk_at dksL_law_50 13 rfl rfl)
theorem dL_law_1401 : decode cL_law 1401 = .ok (.iadd, 1) := dk_96 (dk_at dksL_law_50 14 rfl rfl)
theorem dL_law_1402 : decode cL_law 1402 = .ok (.iaload, 1) := dk_46 (dk_at dksL_law_50 15 rfl rfl)
theorem dL_law_1403 : decode cL_law 1403 = .ok (.aload_n 0, 1) := dk_42 (dk_at dksL_law_50 16 rfl rfl)
theorem dL_law_1404 : decode cL_law 1404 = .ok (.iload_n 3, 1) := dk_29 (dk_at dksL_law_50 17 rfl rfl)
theorem dL_law_1405 : decode cL_law 1405 = .ok (.iconst 2, 1) := dk_5 (dk_at dksL_law_50 18 rfl rfl)
theorem dL_law_1406 : decode cL_law 1406 = .ok (.iadd, 1) := dk_96 (dk_at dksL_law_50 19 rfl rfl)
theorem dL_law_1407 : decode cL_law 1407 = .ok (.iaload, 1) := dk_46 (dk_at dksL_law_50 20 rfl rfl)
theorem dL_law_1408 : decode cL_law 1408 = .ok (.invokevirtual 174, 3) := dk_182 0 174 (dk_at dksL_law_50 21 rfl rfl)
theorem dL_law_1411 : decode cL_law 1411 = .ok (.if_icmp .eq 423, 3) := dk_159 1 167 (dk_at dksL_law_51 0 rfl rfl)
theorem dL_law_1414 : decode cL_law 1414 = .ok (.iconst 0, 1) := dk_3 (dk_at dksL_law_51 3 rfl rfl)
theorem dL_law_1415 : decode cL_law 1415 = .ok (.ireturn, 1) := dk_172 (dk_at dksL_law_51 4 rfl rfl)
theorem dL_law_1416 : decode cL_law 1416 = .ok (.aload_n 1, 1) := dk_43 (dk_at dksL_law_51 5 rfl rfl)
theorem dL_law_1417 : decode cL_law 1417 = .ok (.invokevirtual 175, 3) := dk_182 0 175 (dk_at dksL_law_51 6 rfl rfl)
theorem dL_law_1420 : decode cL_law 1420 = .ok (.aload_n 2, 1) := dk_44 (dk_at dksL_law_51 9 rfl rfl)
theorem dL_law_1421 : decode cL_law 1421 = .ok (.invokevirtual 178, 3) := dk_182 0 178 (dk_at dksL_law_51 10 rfl rfl)
theorem dL_law_1424 : decode cL_law 1424 = .ok (.if_icmp .eq 410, 3) := dk_159 1 154 (dk_at dksL_law_51 13 rfl rfl)
theorem dL_law_1427 : decode cL_law 1427 = .ok (.iconst 0, 1) := dk_3 (dk_at dksL_law_51 16 rfl rfl)
theorem dL_law_1428 : decode cL_law 1428 = .ok (.ireturn, 1) := dk_172 (dk_at dksL_law_51 17 rfl rfl)
theorem dL_law_1429 : decode cL_law 1429 = .ok (.aload_n 1, 1) := dk_43 (dk_at dksL_law_51 18 rfl rfl)
theorem dL_law_1430 : decode cL_law 1430 = .ok (.aload_n 0, 1) := dk_42 (dk_at dksL_law_51 19 rfl rfl)
theorem dL_law_1431 : decode cL_law 1431 = .ok (.iload_n 3, 1) := dk_29 (dk_at dksL_law_51 20 rfl rfl)
theorem dL_law_1432 : decode cL_law 1432 = .ok (.iconst 1, 1) := dk_4 (dk_at dksL_law_51 21 rfl rfl)
theorem dL_law_1433 : decode cL_law 1433 = .ok (.iadd, 1) := dk_96 (dk_at dksL_law_51 22 rfl rfl)
theorem dL_law_1434 : decode cL_law 1434 = .ok (.iaload, 1) := dk_46 (dk_at dksL_law_51 23 rfl rfl)
theorem dL_law_1435 : decode cL_law 1435 = .ok (.aload_n 0, 1) := dk_42 (dk_at dksL_law_52 0 rfl rfl)
theorem dL_law_1436 : decode cL_law 1436 = .ok (.iload_n 3, 1) := dk_29 (dk_at dksL_law_52 1 rfl rfl)
theorem dL_law_1437 : decode cL_law 1437 = .ok (.iconst 2, 1) := dk_5 (dk_at dksL_law_52 2 rfl rfl)
theorem dL_law_1438 : decode cL_law 1438 = .ok (.iadd, 1) := dk_96 (dk_at dksL_law_52 3 rfl rfl)
theorem dL_law_1439 : decode cL_law 1439 = .ok (.iaload, 1) := dk_46 (dk_at dksL_law_52 4 rfl rfl)
theorem dL_law_1440 : decode cL_law 1440 = .ok (.invokevirtual 179, 3) := dk_182 0 179 (dk_at dksL_law_52 5 rfl rfl)
theorem dL_law_1443 : decode cL_law 1443 = .ok (.aload_n 2, 1) := dk_44 (dk_at dksL_law_52 8 rfl rfl)
theorem dL_law_1444 : decode cL_law 1444 = .ok (.aload_n 0, 1) := dk_42 (dk_at dksL_law_52 9 rfl rfl)
theorem dL_law_1445 : decode cL_law 1445 = .ok (.iload_n 3, 1) := dk_29 (dk_at dksL_law_52 10 rfl rfl)
theorem dL_law_1446 : decode cL_law 1446 = .ok (.iconst 1, 1) := dk_4 (dk_at dksL_law_52 11 rfl rfl)
theorem dL_law_1447 : decode cL_law 1447 = .ok (.iadd, 1) := dk_96 (dk_at dksL_law_52 12 rfl rfl)
theorem dL_law_1448 : decode cL_law 1448 = .ok (.iaload, 1) := dk_46 (dk_at dksL_law_52 13 rfl rfl)
theorem dL_law_1449 : decode cL_law 1449 = .ok (.aload_n 0, 1) := dk_42 (dk_at dksL_law_52 14 rfl rfl)
theorem dL_law_1450 : decode cL_law 1450 = .ok (.iload_n 3, 1) := dk_29 (dk_at dksL_law_52 15 rfl rfl)
theorem dL_law_1451 : decode cL_law 1451 = .ok (.iconst 2, 1) := dk_5 (dk_at dksL_law_52 16 rfl rfl)
theorem dL_law_1452 : decode cL_law 1452 = .ok (.iadd, 1) := dk_96 (dk_at dksL_law_52 17 rfl rfl)
theorem dL_law_1453 : decode cL_law 1453 = .ok (.iaload, 1) := dk_46 (dk_at dksL_law_52 18 rfl rfl)
theorem dL_law_1454 : decode cL_law 1454 = .ok (.invokevirtual 182, 3) := dk_182 0 182 (dk_at dksL_law_52 19 rfl rfl)
theorem dL_law_1457 : decode cL_law 1457 = .ok (.if_icmp .eq 377, 3) := dk_159 1 121 (dk_at dksL_law_53 0 rfl rfl)
theorem dL_law_1460 : decode cL_law 1460 = .ok (.iconst 0, 1) := dk_3 (dk_at dksL_law_53 3 rfl rfl)
theorem dL_law_1461 : decode cL_law 1461 = .ok (.ireturn, 1) := dk_172 (dk_at dksL_law_53 4 rfl rfl)
theorem dL_law_1462 : decode cL_law 1462 = .ok (.aload_n 1, 1) := dk_43 (dk_at dksL_law_53 5 rfl rfl)
theorem dL_law_1463 : decode cL_law 1463 = .ok (.aload_n 0, 1) := dk_42 (dk_at dksL_law_53 6 rfl rfl)
theorem dL_law_1464 : decode cL_law 1464 = .ok (.iload_n 3, 1) := dk_29 (dk_at dksL_law_53 7 rfl rfl)
theorem dL_law_1465 : decode cL_law 1465 = .ok (.iconst 1, 1) := dk_4 (dk_at dksL_law_53 8 rfl rfl)
theorem dL_law_1466 : decode cL_law 1466 = .ok (.iadd, 1) := dk_96 (dk_at dksL_law_53 9 rfl rfl)
theorem dL_law_1467 : decode cL_law 1467 = .ok (.iaload, 1) := dk_46 (dk_at dksL_law_53 10 rfl rfl)
theorem dL_law_1468 : decode cL_law 1468 = .ok (.invokevirtual 183, 3) := dk_182 0 183 (dk_at dksL_law_53 11 rfl rfl)
theorem dL_law_1471 : decode cL_law 1471 = .ok (.aload_n 2, 1) := dk_44 (dk_at dksL_law_53 14 rfl rfl)
theorem dL_law_1472 : decode cL_law 1472 = .ok (.aload_n 0, 1) := dk_42 (dk_at dksL_law_53 15 rfl rfl)
theorem dL_law_1473 : decode cL_law 1473 = .ok (.iload_n 3, 1) := dk_29 (dk_at dksL_law_53 16 rfl rfl)
theorem dL_law_1474 : decode cL_law 1474 = .ok (.iconst 1, 1) := dk_4 (dk_at dksL_law_53 17 rfl rfl)
theorem dL_law_1475 : decode cL_law 1475 = .ok (.iadd, 1) := dk_96 (dk_at dksL_law_53 18 rfl rfl)
theorem dL_law_1476 : decode cL_law 1476 = .ok (.iaload, 1) := dk_46 (dk_at dksL_law_53 19 rfl rfl)
theorem dL_law_1477 : decode cL_law 1477 = .ok (.invokevirtual 186, 3) := dk_182 0 186 (dk_at dksL_law_53 20 rfl rfl)
theorem dL_law_1480 : decode cL_law 1480 = .ok (.if_icmp .eq 354, 3) := dk_159 1 98 (dk_at dksL_law_54 0 rfl rfl)
theorem dL_law_1483 : decode cL_law 1483 = .ok (.iconst 0, 1) := dk_3 (dk_at dksL_law_54 3 rfl rfl)
theorem dL_law_1484 : decode cL_law 1484 = .ok (.ireturn, 1) := dk_172 (dk_at dksL_law_54 4 rfl rfl)
theorem dL_law_1485 : decode cL_law 1485 = .ok (.aload_n 1, 1) := dk_43 (dk_at dksL_law_54 5 rfl rfl)
theorem dL_law_1486 : decode cL_law 1486 = .ok (.aload_n 0, 1) := dk_42 (dk_at dksL_law_54 6 rfl rfl)
theorem dL_law_1487 : decode cL_law 1487 = .ok (.iload_n 3, 1) := dk_29 (dk_at dksL_law_54 7 rfl rfl)
theorem dL_law_1488 : decode cL_law 1488 = .ok (.iconst 1, 1) := dk_4 (dk_at dksL_law_54 8 rfl rfl)
theorem dL_law_1489 : decode cL_law 1489 = .ok (.iadd, 1) := dk_96 (dk_at dksL_law_54 9 rfl rfl)
theorem dL_law_1490 : decode cL_law 1490 = .ok (.iaload, 1) := dk_46 (dk_at dksL_law_54 10 rfl rfl)
theorem dL_law_1491 : decode cL_law 1491 = .ok (.invokevirtual 187, 3) := dk_182 0 187 (dk_at dksL_law_54 11 rfl rfl)
theorem dL_law_1494 : decode cL_law 1494 = .ok (.aload_n 2, 1) := dk_44 (dk_at dksL_law_54 14 rfl rfl)
theorem dL_law_1495 : decode cL_law 1495 = .ok (.aload_n 0, 1) := dk_42 (dk_at dksL_law_54 15 rfl rfl)
theorem dL_law_1496 : decode cL_law 1496 = .ok (.iload_n 3, 1) := dk_29 (dk_at dksL_law_54 16 rfl rfl)
theorem dL_law_1497 : decode cL_law 1497 = .ok (.iconst 1, 1) := dk_4 (dk_at dksL_law_54 17 rfl rfl)
theorem dL_law_1498 : decode cL_law 1498 = .ok (.iadd, 1) := dk_96 (dk_at dksL_law_54 18 rfl rfl)
theorem dL_law_1499 : decode cL_law 1499 = .ok (.iaload, 1) := dk_46 (dk_at dksL_law_54 19 rfl rfl)
theorem dL_law_1500 : decode cL_law 1500 = .ok (.invokevirtual 190, 3) := dk_182 0 190 (dk_at dksL_law_54 20 rfl rfl)
theorem dL_law_1503 : decode cL_law 1503 = .ok (.if_icmp .eq 331, 3) := dk_159 1 75 (dk_at dksL_law_55 0 rfl rfl)
theorem dL_law_1506 : decode cL_law 1506 = .ok (.iconst 0, 1) := dk_3 (dk_at dksL_law_55 3 rfl rfl)
theorem dL_law_1507 : decode cL_law 1507 = .ok (.ireturn, 1) := dk_172 (dk_at dksL_law_55 4 rfl rfl)
theorem dL_law_1508 : decode cL_law 1508 = .ok (.aload_n 1, 1) := dk_43 (dk_at dksL_law_55 5 rfl rfl)
theorem dL_law_1509 : decode cL_law 1509 = .ok (.invokevirtual 191, 3) := dk_182 0 191 (dk_at dksL_law_55 6 rfl rfl)
theorem dL_law_1512 : decode cL_law 1512 = .ok (.aload_n 2, 1) := dk_44 (dk_at dksL_law_55 9 rfl rfl)
theorem dL_law_1513 : decode cL_law 1513 = .ok (.invokevirtual 194, 3) := dk_182 0 194 (dk_at dksL_law_55 10 rfl rfl)
theorem dL_law_1516 : decode cL_law 1516 = .ok (.if_icmp .eq 318, 3) := dk_159 1 62 (dk_at dksL_law_55 13 rfl rfl)
theorem dL_law_1519 : decode cL_law 1519 = .ok (.iconst 0, 1) := dk_3 (dk_at dksL_law_55 16 rfl rfl)
theorem dL_law_1520 : decode cL_law 1520 = .ok (.ireturn, 1) := dk_172 (dk_at dksL_law_55 17 rfl rfl)
theorem dL_law_1521 : decode cL_law 1521 = .ok (.aload_n 1, 1) := dk_43 (dk_at dksL_law_55 18 rfl rfl)
theorem dL_law_1522 : decode cL_law 1522 = .ok (.aload_n 0, 1) := dk_42 (dk_at dksL_law_55 19 rfl rfl)
theorem dL_law_1523 : decode cL_law 1523 = .ok (.iload_n 3, 1) := dk_29 (dk_at dksL_law_55 20 rfl rfl)
theorem dL_law_1524 : decode cL_law 1524 = .ok (.iconst 1, 1) := dk_4 (dk_at dksL_law_55 21 rfl rfl)
theorem dL_law_1525 : decode cL_law 1525 = .ok (.iadd, 1) := dk_96 (dk_at dksL_law_55 22 rfl rfl)
theorem dL_law_1526 : decode cL_law 1526 = .ok (.iaload, 1) := dk_46 (dk_at dksL_law_55 23 rfl rfl)
theorem dL_law_1527 : decode cL_law 1527 = .ok (.aload_n 0, 1) := dk_42 (dk_at dksL_law_56 0 rfl rfl)
theorem dL_law_1528 : decode cL_law 1528 = .ok (.iload_n 3, 1) := dk_29 (dk_at dksL_law_56 1 rfl rfl)
theorem dL_law_1529 : decode cL_law 1529 = .ok (.iconst 2, 1) := dk_5 (dk_at dksL_law_56 2 rfl rfl)
theorem dL_law_1530 : decode cL_law 1530 = .ok (.iadd, 1) := dk_96 (dk_at dksL_law_56 3 rfl rfl)
theorem dL_law_1531 : decode cL_law 1531 = .ok (.iaload, 1) := dk_46 (dk_at dksL_law_56 4 rfl rfl)
theorem dL_law_1532 : decode cL_law 1532 = .ok (.aload_n 0, 1) := dk_42 (dk_at dksL_law_56 5 rfl rfl)
theorem dL_law_1533 : decode cL_law 1533 = .ok (.iload_n 3, 1) := dk_29 (dk_at dksL_law_56 6 rfl rfl)
theorem dL_law_1534 : decode cL_law 1534 = .ok (.iconst 3, 1) := dk_6 (dk_at dksL_law_56 7 rfl rfl)
theorem dL_law_1535 : decode cL_law 1535 = .ok (.iadd, 1) := dk_96 (dk_at dksL_law_56 8 rfl rfl)
theorem dL_law_1536 : decode cL_law 1536 = .ok (.iaload, 1) := dk_46 (dk_at dksL_law_56 9 rfl rfl)
theorem dL_law_1537 : decode cL_law 1537 = .ok (.invokevirtual 195, 3) := dk_182 0 195 (dk_at dksL_law_56 10 rfl rfl)
theorem dL_law_1540 : decode cL_law 1540 = .ok (.aload_n 2, 1) := dk_44 (dk_at dksL_law_56 13 rfl rfl)
theorem dL_law_1541 : decode cL_law 1541 = .ok (.aload_n 0, 1) := dk_42 (dk_at dksL_law_56 14 rfl rfl)
theorem dL_law_1542 : decode cL_law 1542 = .ok (.iload_n 3, 1) := dk_29 (dk_at dksL_law_56 15 rfl rfl)
theorem dL_law_1543 : decode cL_law 1543 = .ok (.iconst 1, 1) := dk_4 (dk_at dksL_law_56 16 rfl rfl)
theorem dL_law_1544 : decode cL_law 1544 = .ok (.iadd, 1) := dk_96 (dk_at dksL_law_56 17 rfl rfl)
theorem dL_law_1545 : decode cL_law 1545 = .ok (.iaload, 1) := dk_46 (dk_at dksL_law_56 18 rfl rfl)
theorem dL_law_1546 : decode cL_law 1546 = .ok (.aload_n 0, 1) := dk_42 (dk_at dksL_law_56 19 rfl rfl)
theorem dL_law_1547 : decode cL_law 1547 = .ok (.iload_n 3, 1) := dk_29 (dk_at dksL_law_56 20 rfl rfl)
theorem dL_law_1548 : decode cL_law 1548 = .ok (.iconst 2, 1) := dk_5 (dk_at dksL_law_56 21 rfl rfl)
theorem dL_law_1549 : decode cL_law 1549 = .ok (.iadd, 1) := dk_96 (dk_at dksL_law_56 22 rfl rfl)
theorem dL_law_1550 : decode cL_law 1550 = .ok (.iaload, 1) := dk_46 (dk_at dksL_law_56 23 rfl rfl)
theorem dL_law_1551 : decode cL_law 1551 = .ok (.aload_n 0, 1) := dk_42 (dk_at dksL_law_57 0 rfl rfl)
theorem dL_law_1552 : decode cL_law 1552 = .ok (.iload_n 3, 1) := dk_29 (dk_at dksL_law_57 1 rfl rfl)
theorem dL_law_1553 : decode cL_law 1553 = .ok (.iconst 3, 1) := dk_6 (dk_at dksL_law_57 2 rfl rfl)
theorem dL_law_1554 : decode cL_law 1554 = .ok (.iadd, 1) := dk_96 (dk_at dksL_law_57 3 rfl rfl)
theorem dL_law_1555 : decode cL_law 1555 = .ok (.iaload, 1) := dk_46 (dk_at dksL_law_57 4 rfl rfl)
theorem dL_law_1556 : decode cL_law 1556 = .ok (.invokevirtual 198, 3) := dk_182 0 198 (dk_at dksL_law_57 5 rfl rfl)
theorem dL_law_1559 : decode cL_law 1559 = .ok (.if_icmp .eq 275, 3) := dk_159 1 19 (dk_at dksL_law_57 8 rfl rfl)
theorem dL_law_1562 : decode cL_law 1562 = .ok (.iconst 0, 1) := dk_3 (dk_at dksL_law_57 11 rfl rfl)
theorem dL_law_1563 : decode cL_law 1563 = .ok (.ireturn, 1) := dk_172 (dk_at dksL_law_57 12 rfl rfl)
theorem dL_law_1564 : decode cL_law 1564 = .ok (.aload_n 1, 1) := dk_43 (dk_at dksL_law_57 13 rfl rfl)
theorem dL_law_1565 : decode cL_law 1565 = .ok (.aload_n 0, 1) := dk_42 (dk_at dksL_law_57 14 rfl rfl)
theorem dL_law_1566 : decode cL_law 1566 = .ok (.iload_n 3, 1) := dk_29 (dk_at dksL_law_57 15 rfl rfl)
theorem dL_law_1567 : decode cL_law 1567 = .ok (.iconst 1, 1) := dk_4 (dk_at dksL_law_57 16 rfl rfl)
theorem dL_law_1568 : decode cL_law 1568 = .ok (.iadd, 1) := dk_96 (dk_at dksL_law_57 17 rfl rfl)
theorem dL_law_1569 : decode cL_law 1569 = .ok (.iaload, 1) := dk_46 (dk_at dksL_law_57 18 rfl rfl)
theorem dL_law_1570 : decode cL_law 1570 = .ok (.invokevirtual 199, 3) := dk_182 0 199 (dk_at dksL_law_57 19 rfl rfl)
theorem dL_law_1573 : decode cL_law 1573 = .ok (.aload_n 2, 1) := dk_44 (dk_at dksL_law_57 22 rfl rfl)
theorem dL_law_1574 : decode cL_law 1574 = .ok (.aload_n 0, 1) := dk_42 (dk_at dksL_law_57 23 rfl rfl)
theorem dL_law_1575 : decode cL_law 1575 = .ok (.iload_n 3, 1) := dk_29 (dk_at dksL_law_58 0 rfl rfl)
theorem dL_law_1576 : decode cL_law 1576 = .ok (.iconst 1, 1) := dk_4 (dk_at dksL_law_58 1 rfl rfl)
theorem dL_law_1577 : decode cL_law 1577 = .ok (.iadd, 1) := dk_96 (dk_at dksL_law_58 2 rfl rfl)
theorem dL_law_1578 : decode cL_law 1578 = .ok (.iaload, 1) := dk_46 (dk_at dksL_law_58 3 rfl rfl)
theorem dL_law_1579 : decode cL_law 1579 = .ok (.invokevirtual 202, 3) := dk_182 0 202 (dk_at dksL_law_58 4 rfl rfl)
theorem dL_law_1582 : decode cL_law 1582 = .ok (.if_icmp .eq 252, 3) := dk_159 0 252 (dk_at dksL_law_58 7 rfl rfl)
theorem dL_law_1585 : decode cL_law 1585 = .ok (.iconst 0, 1) := dk_3 (dk_at dksL_law_58 10 rfl rfl)
theorem dL_law_1586 : decode cL_law 1586 = .ok (.ireturn, 1) := dk_172 (dk_at dksL_law_58 11 rfl rfl)
theorem dL_law_1587 : decode cL_law 1587 = .ok (.aload_n 1, 1) := dk_43 (dk_at dksL_law_58 12 rfl rfl)
theorem dL_law_1588 : decode cL_law 1588 = .ok (.aload_n 0, 1) := dk_42 (dk_at dksL_law_58 13 rfl rfl)
theorem dL_law_1589 : decode cL_law 1589 = .ok (.iload_n 3, 1) := dk_29 (dk_at dksL_law_58 14 rfl rfl)
theorem dL_law_1590 : decode cL_law 1590 = .ok (.iconst 1, 1) := dk_4 (dk_at dksL_law_58 15 rfl rfl)
theorem dL_law_1591 : decode cL_law 1591 = .ok (.iadd, 1) := dk_96 (dk_at dksL_law_58 16 rfl rfl)
theorem dL_law_1592 : decode cL_law 1592 = .ok (.iaload, 1) := dk_46 (dk_at dksL_law_58 17 rfl rfl)
theorem dL_law_1593 : decode cL_law 1593 = .ok (.invokevirtual 203, 3) := dk_182 0 203 (dk_at dksL_law_58 18 rfl rfl)
theorem dL_law_1596 : decode cL_law 1596 = .ok (.aload_n 2, 1) := dk_44 (dk_at dksL_law_58 21 rfl rfl)
theorem dL_law_1597 : decode cL_law 1597 = .ok (.aload_n 0, 1) := dk_42 (dk_at dksL_law_58 22 rfl rfl)
theorem dL_law_1598 : decode cL_law 1598 = .ok (.iload_n 3, 1) := dk_29 (dk_at dksL_law_58 23 rfl rfl)
theorem dL_law_1599 : decode cL_law 1599 = .ok (.iconst 1, 1) := dk_4 (dk_at dksL_law_59 0 rfl rfl)
theorem dL_law_1600 : decode cL_law 1600 = .ok (.iadd, 1) := dk_96 (dk_at dksL_law_59 1 rfl rfl)
theorem dL_law_1601 : decode cL_law 1601 = .ok (.iaload, 1) := dk_46 (dk_at dksL_law_59 2 rfl rfl)
theorem dL_law_1602 : decode cL_law 1602 = .ok (.invokevirtual 206, 3) := dk_182 0 206 (dk_at dksL_law_59 3 rfl rfl)
theorem dL_law_1605 : decode cL_law 1605 = .ok (.if_icmp .eq 229, 3) := dk_159 0 229 (dk_at dksL_law_59 6 rfl rfl)
theorem dL_law_1608 : decode cL_law 1608 = .ok (.iconst 0, 1) := dk_3 (dk_at dksL_law_59 9 rfl rfl)
theorem dL_law_1609 : decode cL_law 1609 = .ok (.ireturn, 1) := dk_172 (dk_at dksL_law_59 10 rfl rfl)
theorem dL_law_1610 : decode cL_law 1610 = .ok (.aload_n 1, 1) := dk_43 (dk_at dksL_law_59 11 rfl rfl)
theorem dL_law_1611 : decode cL_law 1611 = .ok (.aload_n 0, 1) := dk_42 (dk_at dksL_law_59 12 rfl rfl)
theorem dL_law_1612 : decode cL_law 1612 = .ok (.iload_n 3, 1) := dk_29 (dk_at dksL_law_59 13 rfl rfl)
theorem dL_law_1613 : decode cL_law 1613 = .ok (.iconst 1, 1) := dk_4 (dk_at dksL_law_59 14 rfl rfl)
theorem dL_law_1614 : decode cL_law 1614 = .ok (.iadd, 1) := dk_96 (dk_at dksL_law_59 15 rfl rfl)
theorem dL_law_1615 : decode cL_law 1615 = .ok (.iaload, 1) := dk_46 (dk_at dksL_law_59 16 rfl rfl)
theorem dL_law_1616 : decode cL_law 1616 = .ok (.aload_n 0, 1) := dk_42 (dk_at dksL_law_59 17 rfl rfl)
theorem dL_law_1617 : decode cL_law 1617 = .ok (.iload_n 3, 1) := dk_29 (dk_at dksL_law_59 18 rfl rfl)
theorem dL_law_1618 : decode cL_law 1618 = .ok (.iconst 2, 1) := dk_5 (dk_at dksL_law_59 19 rfl rfl)
theorem dL_law_1619 : decode cL_law 1619 = .ok (.iadd, 1) := dk_96 (dk_at dksL_law_59 20 rfl rfl)
theorem dL_law_1620 : decode cL_law 1620 = .ok (.iaload, 1) := dk_46 (dk_at dksL_law_59 21 rfl rfl)
theorem dL_law_1621 : decode cL_law 1621 = .ok (.invokevirtual 207, 3) := dk_182 0 207 (dk_at dksL_law_60 0 rfl rfl)
theorem dL_law_1624 : decode cL_law 1624 = .ok (.aload_n 2, 1) := dk_44 (dk_at dksL_law_60 3 rfl rfl)
theorem dL_law_1625 : decode cL_law 1625 = .ok (.aload_n 0, 1) := dk_42 (dk_at dksL_law_60 4 rfl rfl)
theorem dL_law_1626 : decode cL_law 1626 = .ok (.iload_n 3, 1) := dk_29 (dk_at dksL_law_60 5 rfl rfl)
theorem dL_law_1627 : decode cL_law 1627 = .ok (.iconst 1, 1) := dk_4 (dk_at dksL_law_60 6 rfl rfl)
theorem dL_law_1628 : decode cL_law 1628 = .ok (.iadd, 1) := dk_96 (dk_at dksL_law_60 7 rfl rfl)
theorem dL_law_1629 : decode cL_law 1629 = .ok (.iaload, 1) := dk_46 (dk_at dksL_law_60 8 rfl rfl)
theorem dL_law_1630 : decode cL_law 1630 = .ok (.aload_n 0, 1) := dk_42 (dk_at dksL_law_60 9 rfl rfl)
theorem dL_law_1631 : decode cL_law 1631 = .ok (.iload_n 3, 1) := dk_29 (dk_at dksL_law_60 10 rfl rfl)
theorem dL_law_1632 : decode cL_law 1632 = .ok (.iconst 2, 1) := dk_5 (dk_at dksL_law_60 11 rfl rfl)
theorem dL_law_1633 : decode cL_law 1633 = .ok (.iadd, 1) := dk_96 (dk_at dksL_law_60 12 rfl rfl)
theorem dL_law_1634 : decode cL_law 1634 = .ok (.iaload, 1) := dk_46 (dk_at dksL_law_60 13 rfl rfl)
theorem dL_law_1635 : decode cL_law 1635 = .ok (.invokevirtual 210, 3) := dk_182 0 210 (dk_at dksL_law_60 14 rfl rfl)
theorem dL_law_1638 : decode cL_law 1638 = .ok (.if_icmp .eq 196, 3) := dk_159 0 196 (dk_at dksL_law_60 17 rfl rfl)
theorem dL_law_1641 : decode cL_law 1641 = .ok (.iconst 0, 1) := dk_3 (dk_at dksL_law_60 20 rfl rfl)
theorem dL_law_1642 : decode cL_law 1642 = .ok (.ireturn, 1) := dk_172 (dk_at dksL_law_60 21 rfl rfl)
theorem dL_law_1643 : decode cL_law 1643 = .ok (.aload_n 1, 1) := dk_43 (dk_at dksL_law_60 22 rfl rfl)
theorem dL_law_1644 : decode cL_law 1644 = .ok (.aload_n 0, 1) := dk_42 (dk_at dksL_law_60 23 rfl rfl)
theorem dL_law_1645 : decode cL_law 1645 = .ok (.iload_n 3, 1) := dk_29 (dk_at dksL_law_61 0 rfl rfl)
theorem dL_law_1646 : decode cL_law 1646 = .ok (.iconst 1, 1) := dk_4 (dk_at dksL_law_61 1 rfl rfl)
theorem dL_law_1647 : decode cL_law 1647 = .ok (.iadd, 1) := dk_96 (dk_at dksL_law_61 2 rfl rfl)
theorem dL_law_1648 : decode cL_law 1648 = .ok (.iaload, 1) := dk_46 (dk_at dksL_law_61 3 rfl rfl)
theorem dL_law_1649 : decode cL_law 1649 = .ok (.aload_n 0, 1) := dk_42 (dk_at dksL_law_61 4 rfl rfl)
theorem dL_law_1650 : decode cL_law 1650 = .ok (.iload_n 3, 1) := dk_29 (dk_at dksL_law_61 5 rfl rfl)
theorem dL_law_1651 : decode cL_law 1651 = .ok (.iconst 2, 1) := dk_5 (dk_at dksL_law_61 6 rfl rfl)
theorem dL_law_1652 : decode cL_law 1652 = .ok (.iadd, 1) := dk_96 (dk_at dksL_law_61 7 rfl rfl)
theorem dL_law_1653 : decode cL_law 1653 = .ok (.iaload, 1) := dk_46 (dk_at dksL_law_61 8 rfl rfl)
theorem dL_law_1654 : decode cL_law 1654 = .ok (.invokevirtual 211, 3) := dk_182 0 211 (dk_at dksL_law_61 9 rfl rfl)
theorem dL_law_1657 : decode cL_law 1657 = .ok (.aload_n 2, 1) := dk_44 (dk_at dksL_law_61 12 rfl rfl)
theorem dL_law_1658 : decode cL_law 1658 = .ok (.aload_n 0, 1) := dk_42 (dk_at dksL_law_61 13 rfl rfl)
theorem dL_law_1659 : decode cL_law 1659 = .ok (.iload_n 3, 1) := dk_29 (dk_at dksL_law_61 14 rfl rfl)
theorem dL_law_1660 : decode cL_law 1660 = .ok (.iconst 1, 1) := dk_4 (dk_at dksL_law_61 15 rfl rfl)
theorem dL_law_1661 : decode cL_law 1661 = .ok (.iadd, 1) := dk_96 (dk_at dksL_law_61 16 rfl rfl)
theorem dL_law_1662 : decode cL_law 1662 = .ok (.iaload, 1) := dk_46 (dk_at dksL_law_61 17 rfl rfl)
theorem dL_law_1663 : decode cL_law 1663 = .ok (.aload_n 0, 1) := dk_42 (dk_at dksL_law_61 18 rfl rfl)
theorem dL_law_1664 : decode cL_law 1664 = .ok (.iload_n 3, 1) := dk_29 (dk_at dksL_law_61 19 rfl rfl)
theorem dL_law_1665 : decode cL_law 1665 = .ok (.iconst 2, 1) := dk_5 (dk_at dksL_law_61 20 rfl rfl)
theorem dL_law_1666 : decode cL_law 1666 = .ok (.iadd, 1) := dk_96 (dk_at dksL_law_61 21 rfl rfl)
theorem dL_law_1667 : decode cL_law 1667 = .ok (.iaload, 1) := dk_46 (dk_at dksL_law_61 22 rfl rfl)
theorem dL_law_1668 : decode cL_law 1668 = .ok (.invokevirtual 214, 3) := dk_182 0 214 (dk_at dksL_law_62 0 rfl rfl)
theorem dL_law_1671 : decode cL_law 1671 = .ok (.if_icmp .eq 163, 3) := dk_159 0 163 (dk_at dksL_law_62 3 rfl rfl)
theorem dL_law_1674 : decode cL_law 1674 = .ok (.iconst 0, 1) := dk_3 (dk_at dksL_law_62 6 rfl rfl)
theorem dL_law_1675 : decode cL_law 1675 = .ok (.ireturn, 1) := dk_172 (dk_at dksL_law_62 7 rfl rfl)
theorem dL_law_1676 : decode cL_law 1676 = .ok (.aload_n 1, 1) := dk_43 (dk_at dksL_law_62 8 rfl rfl)
theorem dL_law_1677 : decode cL_law 1677 = .ok (.aload_n 0, 1) := dk_42 (dk_at dksL_law_62 9 rfl rfl)
theorem dL_law_1678 : decode cL_law 1678 = .ok (.iload_n 3, 1) := dk_29 (dk_at dksL_law_62 10 rfl rfl)
theorem dL_law_1679 : decode cL_law 1679 = .ok (.iconst 1, 1) := dk_4 (dk_at dksL_law_62 11 rfl rfl)
theorem dL_law_1680 : decode cL_law 1680 = .ok (.iadd, 1) := dk_96 (dk_at dksL_law_62 12 rfl rfl)
theorem dL_law_1681 : decode cL_law 1681 = .ok (.iaload, 1) := dk_46 (dk_at dksL_law_62 13 rfl rfl)
theorem dL_law_1682 : decode cL_law 1682 = .ok (.aload_n 0, 1) := dk_42 (dk_at dksL_law_62 14 rfl rfl)
theorem dL_law_1683 : decode cL_law 1683 = .ok (.iload_n 3, 1) := dk_29 (dk_at dksL_law_62 15 rfl rfl)
theorem dL_law_1684 : decode cL_law 1684 = .ok (.iconst 2, 1) := dk_5 (dk_at dksL_law_62 16 rfl rfl)
theorem dL_law_1685 : decode cL_law 1685 = .ok (.iadd, 1) := dk_96 (dk_at dksL_law_62 17 rfl rfl)
theorem dL_law_1686 : decode cL_law 1686 = .ok (.iaload, 1) := dk_46 (dk_at dksL_law_62 18 rfl rfl)
theorem dL_law_1687 : decode cL_law 1687 = .ok (.aload_n 0, 1) := dk_42 (dk_at dksL_law_62 19 rfl rfl)
theorem dL_law_1688 : decode cL_law 1688 = .ok (.iload_n 3, 1) := dk_29 (dk_at dksL_law_62 20 rfl rfl)
theorem dL_law_1689 : decode cL_law 1689 = .ok (.iconst 3, 1) := dk_6 (dk_at dksL_law_62 21 rfl rfl)
theorem dL_law_1690 : decode cL_law 1690 = .ok (.iadd, 1) := dk_96 (dk_at dksL_law_62 22 rfl rfl)
theorem dL_law_1691 : decode cL_law 1691 = .ok (.iaload, 1) := dk_46 (dk_at dksL_law_62 23 rfl rfl)
theorem dL_law_1692 : decode cL_law 1692 = .ok (.aload_n 0, 1) := dk_42 (dk_at dksL_law_63 0 rfl rfl)
theorem dL_law_1693 : decode cL_law 1693 = .ok (.iload_n 3, 1) := dk_29 (dk_at dksL_law_63 1 rfl rfl)
theorem dL_law_1694 : decode cL_law 1694 = .ok (.iconst 4, 1) := dk_7 (dk_at dksL_law_63 2 rfl rfl)
theorem dL_law_1695 : decode cL_law 1695 = .ok (.iadd, 1) := dk_96 (dk_at dksL_law_63 3 rfl rfl)
theorem dL_law_1696 : decode cL_law 1696 = .ok (.iaload, 1) := dk_46 (dk_at dksL_law_63 4 rfl rfl)
theorem dL_law_1697 : decode cL_law 1697 = .ok (.aload_n 0, 1) := dk_42 (dk_at dksL_law_63 5 rfl rfl)
theorem dL_law_1698 : decode cL_law 1698 = .ok (.iload_n 3, 1) := dk_29 (dk_at dksL_law_63 6 rfl rfl)
theorem dL_law_1699 : decode cL_law 1699 = .ok (.iconst 5, 1) := dk_8 (dk_at dksL_law_63 7 rfl rfl)
theorem dL_law_1700 : decode cL_law 1700 = .ok (.iadd, 1) := dk_96 (dk_at dksL_law_63 8 rfl rfl)
theorem dL_law_1701 : decode cL_law 1701 = .ok (.iaload, 1) := dk_46 (dk_at dksL_law_63 9 rfl rfl)
theorem dL_law_1702 : decode cL_law 1702 = .ok (.invokevirtual 215, 3) := dk_182 0 215 (dk_at dksL_law_63 10 rfl rfl)
theorem dL_law_1705 : decode cL_law 1705 = .ok (.aload_n 2, 1) := dk_44 (dk_at dksL_law_63 13 rfl rfl)
theorem dL_law_1706 : decode cL_law 1706 = .ok (.aload_n 0, 1) := dk_42 (dk_at dksL_law_63 14 rfl rfl)
theorem dL_law_1707 : decode cL_law 1707 = .ok (.iload_n 3, 1) := dk_29 (dk_at dksL_law_63 15 rfl rfl)
theorem dL_law_1708 : decode cL_law 1708 = .ok (.iconst 1, 1) := dk_4 (dk_at dksL_law_63 16 rfl rfl)
theorem dL_law_1709 : decode cL_law 1709 = .ok (.iadd, 1) := dk_96 (dk_at dksL_law_63 17 rfl rfl)
theorem dL_law_1710 : decode cL_law 1710 = .ok (.iaload, 1) := dk_46 (dk_at dksL_law_63 18 rfl rfl)
theorem dL_law_1711 : decode cL_law 1711 = .ok (.aload_n 0, 1) := dk_42 (dk_at dksL_law_63 19 rfl rfl)
theorem dL_law_1712 : decode cL_law 1712 = .ok (.iload_n 3, 1) := dk_29 (dk_at dksL_law_63 20 rfl rfl)
theorem dL_law_1713 : decode cL_law 1713 = .ok (.iconst 2, 1) := dk_5 (dk_at dksL_law_63 21 rfl rfl)
theorem dL_law_1714 : decode cL_law 1714 = .ok (.iadd, 1) := dk_96 (dk_at dksL_law_63 22 rfl rfl)
theorem dL_law_1715 : decode cL_law 1715 = .ok (.iaload, 1) := dk_46 (dk_at dksL_law_63 23 rfl rfl)
theorem dL_law_1716 : decode cL_law 1716 = .ok (.aload_n 0, 1) := dk_42 (dk_at dksL_law_64 0 rfl rfl)
theorem dL_law_1717 : decode cL_law 1717 = .ok (.iload_n 3, 1) := dk_29 (dk_at dksL_law_64 1 rfl rfl)
theorem dL_law_1718 : decode cL_law 1718 = .ok (.iconst 3, 1) := dk_6 (dk_at dksL_law_64 2 rfl rfl)
theorem dL_law_1719 : decode cL_law 1719 = .ok (.iadd, 1) := dk_96 (dk_at dksL_law_64 3 rfl rfl)
theorem dL_law_1720 : decode cL_law 1720 = .ok (.iaload, 1) := dk_46 (dk_at dksL_law_64 4 rfl rfl)
theorem dL_law_1721 : decode cL_law 1721 = .ok (.aload_n 0, 1) := dk_42 (dk_at dksL_law_64 5 rfl rfl)
theorem dL_law_1722 : decode cL_law 1722 = .ok (.iload_n 3, 1) := dk_29 (dk_at dksL_law_64 6 rfl rfl)
theorem dL_law_1723 : decode cL_law 1723 = .ok (.iconst 4, 1) := dk_7 (dk_at dksL_law_64 7 rfl rfl)
theorem dL_law_1724 : decode cL_law 1724 = .ok (.iadd, 1) := dk_96 (dk_at dksL_law_64 8 rfl rfl)
theorem dL_law_1725 : decode cL_law 1725 = .ok (.iaload, 1) := dk_46 (dk_at dksL_law_64 9 rfl rfl)
theorem dL_law_1726 : decode cL_law 1726 = .ok (.aload_n 0, 1) := dk_42 (dk_at dksL_law_64 10 rfl rfl)
theorem dL_law_1727 : decode cL_law 1727 = .ok (.iload_n 3, 1) := dk_29 (dk_at dksL_law_64 11 rfl rfl)
theorem dL_law_1728 : decode cL_law 1728 = .ok (.iconst 5, 1) := dk_8 (dk_at dksL_law_64 12 rfl rfl)
theorem dL_law_1729 : decode cL_law 1729 = .ok (.iadd, 1) := dk_96 (dk_at dksL_law_64 13 rfl rfl)
theorem dL_law_1730 : decode cL_law 1730 = .ok (.iaload, 1) := dk_46 (dk_at dksL_law_64 14 rfl rfl)
theorem dL_law_1731 : decode cL_law 1731 = .ok (.invokevirtual 218, 3) := dk_182 0 218 (dk_at dksL_law_64 15 rfl rfl)
theorem dL_law_1734 : decode cL_law 1734 = .ok (.if_icmp .eq 100, 3) := dk_159 0 100 (dk_at dksL_law_64 18 rfl rfl)
theorem dL_law_1737 : decode cL_law 1737 = .ok (.iconst 0, 1) := dk_3 (dk_at dksL_law_64 21 rfl rfl)
theorem dL_law_1738 : decode cL_law 1738 = .ok (.ireturn, 1) := dk_172 (dk_at dksL_law_64 22 rfl rfl)
theorem dL_law_1739 : decode cL_law 1739 = .ok (.aload_n 1, 1) := dk_43 (dk_at dksL_law_64 23 rfl rfl)
theorem dL_law_1740 : decode cL_law 1740 = .ok (.invokevirtual 219, 3) := dk_182 0 219 (dk_at dksL_law_65 0 rfl rfl)
theorem dL_law_1743 : decode cL_law 1743 = .ok (.aload_n 2, 1) := dk_44 (dk_at dksL_law_65 3 rfl rfl)
theorem dL_law_1744 : decode cL_law 1744 = .ok (.invokevirtual 222, 3) := dk_182 0 222 (dk_at dksL_law_65 4 rfl rfl)
theorem dL_law_1747 : decode cL_law 1747 = .ok (.if_icmp .eq 87, 3) := dk_159 0 87 (dk_at dksL_law_65 7 rfl rfl)
theorem dL_law_1750 : decode cL_law 1750 = .ok (.iconst 0, 1) := dk_3 (dk_at dksL_law_65 10 rfl rfl)
theorem dL_law_1751 : decode cL_law 1751 = .ok (.ireturn, 1) := dk_172 (dk_at dksL_law_65 11 rfl rfl)
theorem dL_law_1752 : decode cL_law 1752 = .ok (.aload_n 1, 1) := dk_43 (dk_at dksL_law_65 12 rfl rfl)
theorem dL_law_1753 : decode cL_law 1753 = .ok (.invokevirtual 223, 3) := dk_182 0 223 (dk_at dksL_law_65 13 rfl rfl)
theorem dL_law_1756 : decode cL_law 1756 = .ok (.aload_n 2, 1) := dk_44 (dk_at dksL_law_65 16 rfl rfl)
theorem dL_law_1757 : decode cL_law 1757 = .ok (.invokevirtual 226, 3) := dk_182 0 226 (dk_at dksL_law_65 17 rfl rfl)
theorem dL_law_1760 : decode cL_law 1760 = .ok (.if_icmp .eq 74, 3) := dk_159 0 74 (dk_at dksL_law_65 20 rfl rfl)
theorem dL_law_1763 : decode cL_law 1763 = .ok (.iconst 0, 1) := dk_3 (dk_at dksL_law_65 23 rfl rfl)
theorem dL_law_1764 : decode cL_law 1764 = .ok (.ireturn, 1) := dk_172 (dk_at dksL_law_66 0 rfl rfl)
theorem dL_law_1765 : decode cL_law 1765 = .ok (.aload_n 1, 1) := dk_43 (dk_at dksL_law_66 1 rfl rfl)
theorem dL_law_1766 : decode cL_law 1766 = .ok (.aload_n 0, 1) := dk_42 (dk_at dksL_law_66 2 rfl rfl)
theorem dL_law_1767 : decode cL_law 1767 = .ok (.iload_n 3, 1) := dk_29 (dk_at dksL_law_66 3 rfl rfl)
theorem dL_law_1768 : decode cL_law 1768 = .ok (.iconst 1, 1) := dk_4 (dk_at dksL_law_66 4 rfl rfl)
theorem dL_law_1769 : decode cL_law 1769 = .ok (.iadd, 1) := dk_96 (dk_at dksL_law_66 5 rfl rfl)
theorem dL_law_1770 : decode cL_law 1770 = .ok (.iaload, 1) := dk_46 (dk_at dksL_law_66 6 rfl rfl)
theorem dL_law_1771 : decode cL_law 1771 = .ok (.invokevirtual 227, 3) := dk_182 0 227 (dk_at dksL_law_66 7 rfl rfl)
theorem dL_law_1774 : decode cL_law 1774 = .ok (.aload_n 2, 1) := dk_44 (dk_at dksL_law_66 10 rfl rfl)
theorem dL_law_1775 : decode cL_law 1775 = .ok (.aload_n 0, 1) := dk_42 (dk_at dksL_law_66 11 rfl rfl)
theorem dL_law_1776 : decode cL_law 1776 = .ok (.iload_n 3, 1) := dk_29 (dk_at dksL_law_66 12 rfl rfl)
theorem dL_law_1777 : decode cL_law 1777 = .ok (.iconst 1, 1) := dk_4 (dk_at dksL_law_66 13 rfl rfl)
theorem dL_law_1778 : decode cL_law 1778 = .ok (.iadd, 1) := dk_96 (dk_at dksL_law_66 14 rfl rfl)
theorem dL_law_1779 : decode cL_law 1779 = .ok (.iaload, 1) := dk_46 (dk_at dksL_law_66 15 rfl rfl)
theorem dL_law_1780 : decode cL_law 1780 = .ok (.invokevirtual 230, 3) := dk_182 0 230 (dk_at dksL_law_66 16 rfl rfl)
theorem dL_law_1783 : decode cL_law 1783 = .ok (.if_icmp .eq 51, 3) := dk_159 0 51 (dk_at dksL_law_66 19 rfl rfl)
theorem dL_law_1786 : decode cL_law 1786 = .ok (.iconst 0, 1) := dk_3 (dk_at dksL_law_66 22 rfl rfl)
theorem dL_law_1787 : decode cL_law 1787 = .ok (.ireturn, 1) := dk_172 (dk_at dksL_law_66 23 rfl rfl)
theorem dL_law_1788 : decode cL_law 1788 = .ok (.aload_n 1, 1) := dk_43 (dk_at dksL_law_67 0 rfl rfl)
theorem dL_law_1789 : decode cL_law 1789 = .ok (.aload_n 0, 1) := dk_42 (dk_at dksL_law_67 1 rfl rfl)
theorem dL_law_1790 : decode cL_law 1790 = .ok (.iload_n 3, 1) := dk_29 (dk_at dksL_law_67 2 rfl rfl)
theorem dL_law_1791 : decode cL_law 1791 = .ok (.iconst 1, 1) := dk_4 (dk_at dksL_law_67 3 rfl rfl)
theorem dL_law_1792 : decode cL_law 1792 = .ok (.iadd, 1) := dk_96 (dk_at dksL_law_67 4 rfl rfl)
theorem dL_law_1793 : decode cL_law 1793 = .ok (.iaload, 1) := dk_46 (dk_at dksL_law_67 5 rfl rfl)
theorem dL_law_1794 : decode cL_law 1794 = .ok (.invokevirtual 231, 3) := dk_182 0 231 (dk_at dksL_law_67 6 rfl rfl)
theorem dL_law_1797 : decode cL_law 1797 = .ok (.aload_n 2, 1) := dk_44 (dk_at dksL_law_67 9 rfl rfl)
theorem dL_law_1798 : decode cL_law 1798 = .ok (.aload_n 0, 1) := dk_42 (dk_at dksL_law_67 10 rfl rfl)
theorem dL_law_1799 : decode cL_law 1799 = .ok (.iload_n 3, 1) := dk_29 (dk_at dksL_law_67 11 rfl rfl)
theorem dL_law_1800 : decode cL_law 1800 = .ok (.iconst 1, 1) := dk_4 (dk_at dksL_law_67 12 rfl rfl)
theorem dL_law_1801 : decode cL_law 1801 = .ok (.iadd, 1) := dk_96 (dk_at dksL_law_67 13 rfl rfl)
theorem dL_law_1802 : decode cL_law 1802 = .ok (.iaload, 1) := dk_46 (dk_at dksL_law_67 14 rfl rfl)
theorem dL_law_1803 : decode cL_law 1803 = .ok (.invokevirtual 234, 3) := dk_182 0 234 (dk_at dksL_law_67 15 rfl rfl)
theorem dL_law_1806 : decode cL_law 1806 = .ok (.if_icmp .eq 28, 3) := dk_159 0 28 (dk_at dksL_law_67 18 rfl rfl)
theorem dL_law_1809 : decode cL_law 1809 = .ok (.iconst 0, 1) := dk_3 (dk_at dksL_law_67 21 rfl rfl)
theorem dL_law_1810 : decode cL_law 1810 = .ok (.ireturn, 1) := dk_172 (dk_at dksL_law_67 22 rfl rfl)
theorem dL_law_1811 : decode cL_law 1811 = .ok (.aload_n 1, 1) := dk_43 (dk_at dksL_law_67 23 rfl rfl)
theorem dL_law_1812 : decode cL_law 1812 = .ok (.aload_n 0, 1) := dk_42 (dk_at dksL_law_68 0 rfl rfl)
theorem dL_law_1813 : decode cL_law 1813 = .ok (.iload_n 3, 1) := dk_29 (dk_at dksL_law_68 1 rfl rfl)
theorem dL_law_1814 : decode cL_law 1814 = .ok (.iconst 1, 1) := dk_4 (dk_at dksL_law_68 2 rfl rfl)
theorem dL_law_1815 : decode cL_law 1815 = .ok (.iadd, 1) := dk_96 (dk_at dksL_law_68 3 rfl rfl)
theorem dL_law_1816 : decode cL_law 1816 = .ok (.iaload, 1) := dk_46 (dk_at dksL_law_68 4 rfl rfl)
theorem dL_law_1817 : decode cL_law 1817 = .ok (.invokevirtual 235, 3) := dk_182 0 235 (dk_at dksL_law_68 5 rfl rfl)
theorem dL_law_1820 : decode cL_law 1820 = .ok (.aload_n 2, 1) := dk_44 (dk_at dksL_law_68 8 rfl rfl)
theorem dL_law_1821 : decode cL_law 1821 = .ok (.aload_n 0, 1) := dk_42 (dk_at dksL_law_68 9 rfl rfl)
theorem dL_law_1822 : decode cL_law 1822 = .ok (.iload_n 3, 1) := dk_29 (dk_at dksL_law_68 10 rfl rfl)
theorem dL_law_1823 : decode cL_law 1823 = .ok (.iconst 1, 1) := dk_4 (dk_at dksL_law_68 11 rfl rfl)
theorem dL_law_1824 : decode cL_law 1824 = .ok (.iadd, 1) := dk_96 (dk_at dksL_law_68 12 rfl rfl)
theorem dL_law_1825 : decode cL_law 1825 = .ok (.iaload, 1) := dk_46 (dk_at dksL_law_68 13 rfl rfl)
theorem dL_law_1826 : decode cL_law 1826 = .ok (.invokevirtual 238, 3) := dk_182 0 238 (dk_at dksL_law_68 14 rfl rfl)
theorem dL_law_1829 : decode cL_law 1829 = .ok (.if_icmp .eq 5, 3) := dk_159 0 5 (dk_at dksL_law_68 17 rfl rfl)
theorem dL_law_1832 : decode cL_law 1832 = .ok (.iconst 0, 1) := dk_3 (dk_at dksL_law_68 20 rfl rfl)
theorem dL_law_1833 : decode cL_law 1833 = .ok (.ireturn, 1) := dk_172 (dk_at dksL_law_68 21 rfl rfl)
theorem dL_law_1834 : decode cL_law 1834 = .ok (.iinc 3 6, 3) := dk_132 3 6 (dk_at dksL_law_69 0 rfl rfl)
theorem dL_law_1837 : decode cL_law 1837 = .ok (.goto (-1819), 3) := dk_167 248 229 (dk_at dksL_law_69 3 rfl rfl)
theorem dL_law_1840 : decode cL_law 1840 = .ok (.iconst 1, 1) := dk_4 (dk_at dksL_law_69 6 rfl rfl)
theorem dL_law_1841 : decode cL_law 1841 = .ok (.ireturn, 1) := dk_172 (dk_at dksL_law_69 7 rfl rfl)

theorem q136 : (Jvm.Cond.initialized "WatchStackLaw") ∈ lw_all := lw_g (lw_at lw_m1 0 rfl) rfl
set_option maxRecDepth 100000
theorem q174 : (Jvm.Cond.classLink "WatchStackLaw" (7 : Nat) "WatchStack") ∈ lw_all := lw_g (lw_at lw_m1 38 rfl) rfl
theorem q176 : (Jvm.Cond.methodLink "WatchStackLaw" (9 : Nat) ({ cls := "WatchStack", name := "<init>", desc := "()V" } : Jvm.MethodName)) ∈ lw_all := lw_g (lw_at lw_m1 40 rfl) rfl
theorem q567 : (Jvm.Cond.methodLink "WatchStackLaw" (13 : Nat) ({ cls := "WatchStack", name := "feed", desc := "(IIIII)I" } : Jvm.MethodName)) ∈ lw_all := lw_g (lw_at lw_m2 191 rfl) rfl
theorem q571 : (Jvm.Cond.methodLink "WatchStackLaw" (18 : Nat) ({ cls := "WatchStack", name := "end", desc := "(I)I" } : Jvm.MethodName)) ∈ lw_all := lw_g (lw_at lw_m2 195 rfl) rfl
theorem q578 : (Jvm.Cond.methodLink "WatchStackLaw" (23 : Nat) ({ cls := "WatchStack", name := "board", desc := "()I" } : Jvm.MethodName)) ∈ lw_all := lw_g (lw_at lw_m2 202 rfl) rfl
theorem q977 : (Jvm.Cond.methodLink "WatchStackLaw" (28 : Nat) ({ cls := "WatchStack", name := "fault", desc := "(I)I" } : Jvm.MethodName)) ∈ lw_all := lw_g (lw_at lw_m4 121 rfl) rfl
theorem q981 : (Jvm.Cond.methodLink "WatchStackLaw" (32 : Nat) ({ cls := "WatchStack", name := "task", desc := "(II)I" } : Jvm.MethodName)) ∈ lw_all := lw_g (lw_at lw_m4 125 rfl) rfl
theorem q989 : (Jvm.Cond.methodLink "WatchStackLaw" (37 : Nat) ({ cls := "WatchStack", name := "node", desc := "(III)I" } : Jvm.MethodName)) ∈ lw_all := lw_g (lw_at lw_m4 133 rfl) rfl
theorem q993 : (Jvm.Cond.methodLink "WatchStackLaw" (42 : Nat) ({ cls := "WatchStack", name := "watcher", desc := "(I)I" } : Jvm.MethodName)) ∈ lw_all := lw_g (lw_at lw_m4 137 rfl) rfl
theorem q997 : (Jvm.Cond.methodLink "WatchStackLaw" (46 : Nat) ({ cls := "WatchStack", name := "injection", desc := "(II)I" } : Jvm.MethodName)) ∈ lw_all := lw_g (lw_at lw_m4 141 rfl) rfl
theorem q1006 : (Jvm.Cond.methodLink "WatchStackLaw" (50 : Nat) ({ cls := "WatchStack", name := "cost", desc := "(II)I" } : Jvm.MethodName)) ∈ lw_all := lw_g (lw_at lw_m4 150 rfl) rfl
theorem q1016 : (Jvm.Cond.methodLink "WatchStackLaw" (54 : Nat) ({ cls := "WatchStack", name := "ways", desc := "(I)I" } : Jvm.MethodName)) ∈ lw_all := lw_g (lw_at lw_m4 160 rfl) rfl
theorem q1025 : (Jvm.Cond.methodLink "WatchStackLaw" (58 : Nat) ({ cls := "WatchStack", name := "response", desc := "(I)I" } : Jvm.MethodName)) ∈ lw_all := lw_g (lw_at lw_m4 169 rfl) rfl
theorem q1048 : (Jvm.Cond.methodLink "WatchStackLaw" (62 : Nat) ({ cls := "WatchStack", name := "least", desc := "(II)I" } : Jvm.MethodName)) ∈ lw_all := lw_g (lw_at lw_m4 192 rfl) rfl
theorem q1062 : (Jvm.Cond.methodLink "WatchStackLaw" (66 : Nat) ({ cls := "WatchStack", name := "room", desc := "(I)I" } : Jvm.MethodName)) ∈ lw_all := lw_g (lw_at lw_m4 206 rfl) rfl
theorem q1074 : (Jvm.Cond.methodLink "WatchStackLaw" (82 : Nat) ({ cls := "WatchStack", name := "answer", desc := "(III)I" } : Jvm.MethodName)) ∈ lw_all := lw_g (lw_at lw_m4 218 rfl) rfl
theorem q1093 : (Jvm.Cond.methodLink "WatchStackLaw" (86 : Nat) ({ cls := "WatchStack", name := "alike", desc := "(II)I" } : Jvm.MethodName)) ∈ lw_all := lw_g (lw_at lw_m4 237 rfl) rfl
theorem q1101 : (Jvm.Cond.methodLink "WatchStackLaw" (70 : Nat) ({ cls := "WatchStack", name := "orders", desc := "()I" } : Jvm.MethodName)) ∈ lw_all := lw_g (lw_at lw_m5 5 rfl) rfl
theorem q1117 : (Jvm.Cond.methodLink "WatchStackLaw" (74 : Nat) ({ cls := "WatchStack", name := "order", desc := "(I)I" } : Jvm.MethodName)) ∈ lw_all := lw_g (lw_at lw_m5 21 rfl) rfl
theorem q1121 : (Jvm.Cond.methodLink "WatchStackLaw" (78 : Nat) ({ cls := "WatchStack", name := "path", desc := "(III)I" } : Jvm.MethodName)) ∈ lw_all := lw_g (lw_at lw_m5 25 rfl) rfl
theorem q1125 : (Jvm.Cond.methodLink "WatchStackLaw" (90 : Nat) ({ cls := "WatchStack", name := "lawful", desc := "()I" } : Jvm.MethodName)) ∈ lw_all := lw_g (lw_at lw_m5 29 rfl) rfl
theorem q1129 : (Jvm.Cond.methodLink "WatchStackLaw" (94 : Nat) ({ cls := "WatchStack", name := "load", desc := "()I" } : Jvm.MethodName)) ∈ lw_all := lw_g (lw_at lw_m5 33 rfl) rfl
theorem q1143 : (Jvm.Cond.methodLink "WatchStackLaw" (98 : Nat) ({ cls := "WatchStack", name := "had", desc := "(I)I" } : Jvm.MethodName)) ∈ lw_all := lw_g (lw_at lw_m5 47 rfl) rfl
theorem q1292 : (Jvm.Cond.methodLink "WatchStackLaw" (102 : Nat) ({ cls := "WatchStack", name := "idle", desc := "(I)I" } : Jvm.MethodName)) ∈ lw_all := lw_g (lw_at lw_m5 196 rfl) rfl
theorem q1300 : (Jvm.Cond.methodLink "WatchStackLaw" (106 : Nat) ({ cls := "WatchStack", name := "kicks", desc := "(II)I" } : Jvm.MethodName)) ∈ lw_all := lw_g (lw_at lw_m5 204 rfl) rfl
theorem q1316 : (Jvm.Cond.methodLink "WatchStackLaw" (110 : Nat) ({ cls := "WatchStack", name := "kicked", desc := "(II)I" } : Jvm.MethodName)) ∈ lw_all := lw_g (lw_at lw_m5 220 rfl) rfl
theorem q1320 : (Jvm.Cond.methodLink "WatchStackLaw" (118 : Nat) ({ cls := "WatchStack", name := "jobs", desc := "(II)I" } : Jvm.MethodName)) ∈ lw_all := lw_g (lw_at lw_m5 224 rfl) rfl
theorem q1324 : (Jvm.Cond.methodLink "WatchStackLaw" (122 : Nat) ({ cls := "WatchStack", name := "at", desc := "(II)I" } : Jvm.MethodName)) ∈ lw_all := lw_g (lw_at lw_m5 228 rfl) rfl
theorem q1328 : (Jvm.Cond.methodLink "WatchStackLaw" (114 : Nat) ({ cls := "WatchStack", name := "gap", desc := "(II)I" } : Jvm.MethodName)) ∈ lw_all := lw_g (lw_at lw_m5 232 rfl) rfl
theorem q1336 : (Jvm.Cond.methodLink "WatchStackLaw" (126 : Nat) ({ cls := "WatchStack", name := "question", desc := "(II)I" } : Jvm.MethodName)) ∈ lw_all := lw_g (lw_at lw_m6 0 rfl) rfl
theorem q1340 : (Jvm.Cond.methodLink "WatchStackLaw" (130 : Nat) ({ cls := "WatchStack", name := "start", desc := "(II)I" } : Jvm.MethodName)) ∈ lw_all := lw_g (lw_at lw_m6 4 rfl) rfl
theorem q1344 : (Jvm.Cond.methodLink "WatchStackLaw" (134 : Nat) ({ cls := "WatchStack", name := "memory", desc := "(II)I" } : Jvm.MethodName)) ∈ lw_all := lw_g (lw_at lw_m6 8 rfl) rfl
theorem q1348 : (Jvm.Cond.methodLink "WatchStackLaw" (138 : Nat) ({ cls := "WatchStack", name := "health", desc := "(II)I" } : Jvm.MethodName)) ∈ lw_all := lw_g (lw_at lw_m6 12 rfl) rfl
theorem q1352 : (Jvm.Cond.methodLink "WatchStackLaw" (142 : Nat) ({ cls := "WatchStack", name := "tenths", desc := "(II)I" } : Jvm.MethodName)) ∈ lw_all := lw_g (lw_at lw_m6 16 rfl) rfl
theorem q1356 : (Jvm.Cond.methodLink "WatchStackLaw" (146 : Nat) ({ cls := "WatchStack", name := "margin", desc := "(II)I" } : Jvm.MethodName)) ∈ lw_all := lw_g (lw_at lw_m6 20 rfl) rfl
theorem q1360 : (Jvm.Cond.methodLink "WatchStackLaw" (150 : Nat) ({ cls := "WatchStack", name := "mean", desc := "(II)J" } : Jvm.MethodName)) ∈ lw_all := lw_g (lw_at lw_m6 24 rfl) rfl
theorem q1376 : (Jvm.Cond.methodLink "WatchStackLaw" (155 : Nat) ({ cls := "WatchStack", name := "faults", desc := "(I)I" } : Jvm.MethodName)) ∈ lw_all := lw_g (lw_at lw_m6 40 rfl) rfl
theorem q1380 : (Jvm.Cond.methodLink "WatchStackLaw" (159 : Nat) ({ cls := "WatchStack", name := "record", desc := "(II)I" } : Jvm.MethodName)) ∈ lw_all := lw_g (lw_at lw_m6 44 rfl) rfl
theorem q1384 : (Jvm.Cond.methodLink "WatchStackLaw" (163 : Nat) ({ cls := "WatchStack", name := "ledger", desc := "(I)I" } : Jvm.MethodName)) ∈ lw_all := lw_g (lw_at lw_m6 48 rfl) rfl
theorem q1437 : (Jvm.Cond.methodLink "WatchStackLaw" (167 : Nat) ({ cls := "WatchStack", name := "kinds", desc := "(I)I" } : Jvm.MethodName)) ∈ lw_all := lw_g (lw_at lw_m6 101 rfl) rfl
theorem q1442 : (Jvm.Cond.methodLink "WatchStackLaw" (171 : Nat) ({ cls := "WatchStack", name := "levels", desc := "(II)I" } : Jvm.MethodName)) ∈ lw_all := lw_g (lw_at lw_m6 106 rfl) rfl
theorem q1446 : (Jvm.Cond.methodLink "WatchStackLaw" (175 : Nat) ({ cls := "WatchStack", name := "halts", desc := "()I" } : Jvm.MethodName)) ∈ lw_all := lw_g (lw_at lw_m6 110 rfl) rfl
theorem q1450 : (Jvm.Cond.methodLink "WatchStackLaw" (179 : Nat) ({ cls := "WatchStack", name := "sleeps", desc := "(II)I" } : Jvm.MethodName)) ∈ lw_all := lw_g (lw_at lw_m6 114 rfl) rfl
theorem q1454 : (Jvm.Cond.methodLink "WatchStackLaw" (183 : Nat) ({ cls := "WatchStack", name := "caught", desc := "(I)I" } : Jvm.MethodName)) ∈ lw_all := lw_g (lw_at lw_m6 118 rfl) rfl
theorem q1466 : (Jvm.Cond.methodLink "WatchStackLaw" (187 : Nat) ({ cls := "WatchStack", name := "without", desc := "(I)I" } : Jvm.MethodName)) ∈ lw_all := lw_g (lw_at lw_m6 130 rfl) rfl
theorem q1470 : (Jvm.Cond.methodLink "WatchStackLaw" (191 : Nat) ({ cls := "WatchStack", name := "blame", desc := "()I" } : Jvm.MethodName)) ∈ lw_all := lw_g (lw_at lw_m6 134 rfl) rfl
theorem q1474 : (Jvm.Cond.methodLink "WatchStackLaw" (195 : Nat) ({ cls := "WatchStack", name := "with", desc := "(III)I" } : Jvm.MethodName)) ∈ lw_all := lw_g (lw_at lw_m6 138 rfl) rfl
theorem q1491 : (Jvm.Cond.methodLink "WatchStackLaw" (199 : Nat) ({ cls := "WatchStack", name := "tight", desc := "(I)I" } : Jvm.MethodName)) ∈ lw_all := lw_g (lw_at lw_m6 155 rfl) rfl
theorem q1495 : (Jvm.Cond.methodLink "WatchStackLaw" (203 : Nat) ({ cls := "WatchStack", name := "loose", desc := "(I)I" } : Jvm.MethodName)) ∈ lw_all := lw_g (lw_at lw_m6 159 rfl) rfl
theorem q1499 : (Jvm.Cond.methodLink "WatchStackLaw" (207 : Nat) ({ cls := "WatchStack", name := "longest", desc := "(II)I" } : Jvm.MethodName)) ∈ lw_all := lw_g (lw_at lw_m6 163 rfl) rfl
theorem q1527 : (Jvm.Cond.methodLink "WatchStackLaw" (211 : Nat) ({ cls := "WatchStack", name := "silent", desc := "(II)I" } : Jvm.MethodName)) ∈ lw_all := lw_g (lw_at lw_m6 191 rfl) rfl
theorem q1531 : (Jvm.Cond.methodLink "WatchStackLaw" (215 : Nat) ({ cls := "WatchStack", name := "inject", desc := "(IIIII)I" } : Jvm.MethodName)) ∈ lw_all := lw_g (lw_at lw_m6 195 rfl) rfl
theorem q1541 : (Jvm.Cond.methodLink "WatchStackLaw" (219 : Nat) ({ cls := "WatchStack", name := "undo", desc := "()I" } : Jvm.MethodName)) ∈ lw_all := lw_g (lw_at lw_m6 205 rfl) rfl
theorem q1545 : (Jvm.Cond.methodLink "WatchStackLaw" (223 : Nat) ({ cls := "WatchStack", name := "anew", desc := "()I" } : Jvm.MethodName)) ∈ lw_all := lw_g (lw_at lw_m6 209 rfl) rfl
theorem q1549 : (Jvm.Cond.methodLink "WatchStackLaw" (227 : Nat) ({ cls := "WatchStack", name := "count", desc := "(I)I" } : Jvm.MethodName)) ∈ lw_all := lw_g (lw_at lw_m6 213 rfl) rfl
theorem q1553 : (Jvm.Cond.methodLink "WatchStackLaw" (231 : Nat) ({ cls := "WatchStack", name := "image", desc := "(I)I" } : Jvm.MethodName)) ∈ lw_all := lw_g (lw_at lw_m6 217 rfl) rfl
theorem q1579 : (Jvm.Cond.methodLink "WatchStackLaw" (235 : Nat) ({ cls := "WatchStack", name := "back", desc := "(I)I" } : Jvm.MethodName)) ∈ lw_all := lw_g (lw_at lw_m7 3 rfl) rfl
theorem q1583 : (Jvm.Cond.classLink "WatchStackLaw" (10 : Nat) "WatchStackModel") ∈ lw_all := lw_g (lw_at lw_m7 7 rfl) rfl
theorem q1585 : (Jvm.Cond.methodLink "WatchStackLaw" (12 : Nat) ({ cls := "WatchStackModel", name := "<init>", desc := "()V" } : Jvm.MethodName)) ∈ lw_all := lw_g (lw_at lw_m7 9 rfl) rfl
theorem q1777 : (Jvm.Cond.methodLink "WatchStackLaw" (234 : Nat) ({ cls := "WatchStackModel", name := "image", desc := "(I)I" } : Jvm.MethodName)) ∈ lw_all := lw_g (lw_at lw_m7 201 rfl) rfl
theorem q1785 : (Jvm.Cond.methodLink "WatchStackLaw" (238 : Nat) ({ cls := "WatchStackModel", name := "back", desc := "(I)I" } : Jvm.MethodName)) ∈ lw_all := lw_g (lw_at lw_m7 209 rfl) rfl
theorem q1789 : (Jvm.Cond.methodLink "WatchStackLaw" (17 : Nat) ({ cls := "WatchStackModel", name := "feed", desc := "(IIIII)I" } : Jvm.MethodName)) ∈ lw_all := lw_g (lw_at lw_m7 213 rfl) rfl
theorem q1793 : (Jvm.Cond.methodLink "WatchStackLaw" (22 : Nat) ({ cls := "WatchStackModel", name := "end", desc := "(I)I" } : Jvm.MethodName)) ∈ lw_all := lw_g (lw_at lw_m7 217 rfl) rfl
theorem q1797 : (Jvm.Cond.methodLink "WatchStackLaw" (31 : Nat) ({ cls := "WatchStackModel", name := "fault", desc := "(I)I" } : Jvm.MethodName)) ∈ lw_all := lw_g (lw_at lw_m7 221 rfl) rfl
theorem q1801 : (Jvm.Cond.methodLink "WatchStackLaw" (27 : Nat) ({ cls := "WatchStackModel", name := "board", desc := "()I" } : Jvm.MethodName)) ∈ lw_all := lw_g (lw_at lw_m7 225 rfl) rfl
theorem q1912 : (Jvm.Cond.methodLink "WatchStackLaw" (36 : Nat) ({ cls := "WatchStackModel", name := "task", desc := "(II)I" } : Jvm.MethodName)) ∈ lw_all := lw_g (lw_at lw_m8 96 rfl) rfl
theorem q1925 : (Jvm.Cond.methodLink "WatchStackLaw" (41 : Nat) ({ cls := "WatchStackModel", name := "node", desc := "(III)I" } : Jvm.MethodName)) ∈ lw_all := lw_g (lw_at lw_m8 109 rfl) rfl
theorem q1945 : (Jvm.Cond.methodLink "WatchStackLaw" (45 : Nat) ({ cls := "WatchStackModel", name := "watcher", desc := "(I)I" } : Jvm.MethodName)) ∈ lw_all := lw_g (lw_at lw_m8 129 rfl) rfl
theorem q1953 : (Jvm.Cond.methodLink "WatchStackLaw" (49 : Nat) ({ cls := "WatchStackModel", name := "injection", desc := "(II)I" } : Jvm.MethodName)) ∈ lw_all := lw_g (lw_at lw_m8 137 rfl) rfl
theorem q1966 : (Jvm.Cond.methodLink "WatchStackLaw" (53 : Nat) ({ cls := "WatchStackModel", name := "cost", desc := "(II)I" } : Jvm.MethodName)) ∈ lw_all := lw_g (lw_at lw_m8 150 rfl) rfl
theorem q1979 : (Jvm.Cond.methodLink "WatchStackLaw" (57 : Nat) ({ cls := "WatchStackModel", name := "ways", desc := "(I)I" } : Jvm.MethodName)) ∈ lw_all := lw_g (lw_at lw_m8 163 rfl) rfl
theorem q1983 : (Jvm.Cond.methodLink "WatchStackLaw" (61 : Nat) ({ cls := "WatchStackModel", name := "response", desc := "(I)I" } : Jvm.MethodName)) ∈ lw_all := lw_g (lw_at lw_m8 167 rfl) rfl
theorem q1999 : (Jvm.Cond.methodLink "WatchStackLaw" (65 : Nat) ({ cls := "WatchStackModel", name := "least", desc := "(II)I" } : Jvm.MethodName)) ∈ lw_all := lw_g (lw_at lw_m8 183 rfl) rfl
theorem q2008 : (Jvm.Cond.methodLink "WatchStackLaw" (93 : Nat) ({ cls := "WatchStackModel", name := "lawful", desc := "()I" } : Jvm.MethodName)) ∈ lw_all := lw_g (lw_at lw_m8 192 rfl) rfl
theorem q2024 : (Jvm.Cond.methodLink "WatchStackLaw" (69 : Nat) ({ cls := "WatchStackModel", name := "room", desc := "(I)I" } : Jvm.MethodName)) ∈ lw_all := lw_g (lw_at lw_m8 208 rfl) rfl
theorem q2028 : (Jvm.Cond.methodLink "WatchStackLaw" (73 : Nat) ({ cls := "WatchStackModel", name := "orders", desc := "()I" } : Jvm.MethodName)) ∈ lw_all := lw_g (lw_at lw_m8 212 rfl) rfl
theorem q2040 : (Jvm.Cond.methodLink "WatchStackLaw" (77 : Nat) ({ cls := "WatchStackModel", name := "order", desc := "(I)I" } : Jvm.MethodName)) ∈ lw_all := lw_g (lw_at lw_m8 224 rfl) rfl
theorem q2044 : (Jvm.Cond.methodLink "WatchStackLaw" (97 : Nat) ({ cls := "WatchStackModel", name := "load", desc := "()I" } : Jvm.MethodName)) ∈ lw_all := lw_g (lw_at lw_m8 228 rfl) rfl
theorem q2049 : (Jvm.Cond.methodLink "WatchStackLaw" (81 : Nat) ({ cls := "WatchStackModel", name := "path", desc := "(III)I" } : Jvm.MethodName)) ∈ lw_all := lw_g (lw_at lw_m8 233 rfl) rfl
theorem q2058 : (Jvm.Cond.methodLink "WatchStackLaw" (85 : Nat) ({ cls := "WatchStackModel", name := "answer", desc := "(III)I" } : Jvm.MethodName)) ∈ lw_all := lw_g (lw_at lw_m9 2 rfl) rfl
theorem q2066 : (Jvm.Cond.methodLink "WatchStackLaw" (89 : Nat) ({ cls := "WatchStackModel", name := "alike", desc := "(II)I" } : Jvm.MethodName)) ∈ lw_all := lw_g (lw_at lw_m9 10 rfl) rfl
theorem q2074 : (Jvm.Cond.methodLink "WatchStackLaw" (101 : Nat) ({ cls := "WatchStackModel", name := "had", desc := "(I)I" } : Jvm.MethodName)) ∈ lw_all := lw_g (lw_at lw_m9 18 rfl) rfl
theorem q2184 : (Jvm.Cond.methodLink "WatchStackLaw" (105 : Nat) ({ cls := "WatchStackModel", name := "idle", desc := "(I)I" } : Jvm.MethodName)) ∈ lw_all := lw_g (lw_at lw_m9 128 rfl) rfl
theorem q2196 : (Jvm.Cond.methodLink "WatchStackLaw" (109 : Nat) ({ cls := "WatchStackModel", name := "kicks", desc := "(II)I" } : Jvm.MethodName)) ∈ lw_all := lw_g (lw_at lw_m9 140 rfl) rfl
theorem q2204 : (Jvm.Cond.methodLink "WatchStackLaw" (113 : Nat) ({ cls := "WatchStackModel", name := "kicked", desc := "(II)I" } : Jvm.MethodName)) ∈ lw_all := lw_g (lw_at lw_m9 148 rfl) rfl
theorem q2208 : (Jvm.Cond.methodLink "WatchStackLaw" (117 : Nat) ({ cls := "WatchStackModel", name := "gap", desc := "(II)I" } : Jvm.MethodName)) ∈ lw_all := lw_g (lw_at lw_m9 152 rfl) rfl
theorem q2212 : (Jvm.Cond.methodLink "WatchStackLaw" (121 : Nat) ({ cls := "WatchStackModel", name := "jobs", desc := "(II)I" } : Jvm.MethodName)) ∈ lw_all := lw_g (lw_at lw_m9 156 rfl) rfl
theorem q2216 : (Jvm.Cond.methodLink "WatchStackLaw" (125 : Nat) ({ cls := "WatchStackModel", name := "at", desc := "(II)I" } : Jvm.MethodName)) ∈ lw_all := lw_g (lw_at lw_m9 160 rfl) rfl
theorem q2220 : (Jvm.Cond.methodLink "WatchStackLaw" (129 : Nat) ({ cls := "WatchStackModel", name := "question", desc := "(II)I" } : Jvm.MethodName)) ∈ lw_all := lw_g (lw_at lw_m9 164 rfl) rfl
theorem q2224 : (Jvm.Cond.methodLink "WatchStackLaw" (133 : Nat) ({ cls := "WatchStackModel", name := "start", desc := "(II)I" } : Jvm.MethodName)) ∈ lw_all := lw_g (lw_at lw_m9 168 rfl) rfl
theorem q2228 : (Jvm.Cond.methodLink "WatchStackLaw" (137 : Nat) ({ cls := "WatchStackModel", name := "memory", desc := "(II)I" } : Jvm.MethodName)) ∈ lw_all := lw_g (lw_at lw_m9 172 rfl) rfl
theorem q2232 : (Jvm.Cond.methodLink "WatchStackLaw" (141 : Nat) ({ cls := "WatchStackModel", name := "health", desc := "(II)I" } : Jvm.MethodName)) ∈ lw_all := lw_g (lw_at lw_m9 176 rfl) rfl
theorem q2236 : (Jvm.Cond.methodLink "WatchStackLaw" (145 : Nat) ({ cls := "WatchStackModel", name := "tenths", desc := "(II)I" } : Jvm.MethodName)) ∈ lw_all := lw_g (lw_at lw_m9 180 rfl) rfl
theorem q2240 : (Jvm.Cond.methodLink "WatchStackLaw" (149 : Nat) ({ cls := "WatchStackModel", name := "margin", desc := "(II)I" } : Jvm.MethodName)) ∈ lw_all := lw_g (lw_at lw_m9 184 rfl) rfl
theorem q2244 : (Jvm.Cond.methodLink "WatchStackLaw" (154 : Nat) ({ cls := "WatchStackModel", name := "mean", desc := "(II)J" } : Jvm.MethodName)) ∈ lw_all := lw_g (lw_at lw_m9 188 rfl) rfl
theorem q2251 : (Jvm.Cond.methodLink "WatchStackLaw" (158 : Nat) ({ cls := "WatchStackModel", name := "faults", desc := "(I)I" } : Jvm.MethodName)) ∈ lw_all := lw_g (lw_at lw_m9 195 rfl) rfl
theorem q2255 : (Jvm.Cond.methodLink "WatchStackLaw" (162 : Nat) ({ cls := "WatchStackModel", name := "record", desc := "(II)I" } : Jvm.MethodName)) ∈ lw_all := lw_g (lw_at lw_m9 199 rfl) rfl
theorem q2259 : (Jvm.Cond.methodLink "WatchStackLaw" (166 : Nat) ({ cls := "WatchStackModel", name := "ledger", desc := "(I)I" } : Jvm.MethodName)) ∈ lw_all := lw_g (lw_at lw_m9 203 rfl) rfl
theorem q2263 : (Jvm.Cond.methodLink "WatchStackLaw" (170 : Nat) ({ cls := "WatchStackModel", name := "kinds", desc := "(I)I" } : Jvm.MethodName)) ∈ lw_all := lw_g (lw_at lw_m9 207 rfl) rfl
theorem q2268 : (Jvm.Cond.methodLink "WatchStackLaw" (174 : Nat) ({ cls := "WatchStackModel", name := "levels", desc := "(II)I" } : Jvm.MethodName)) ∈ lw_all := lw_g (lw_at lw_m9 212 rfl) rfl
theorem q2272 : (Jvm.Cond.methodLink "WatchStackLaw" (178 : Nat) ({ cls := "WatchStackModel", name := "halts", desc := "()I" } : Jvm.MethodName)) ∈ lw_all := lw_g (lw_at lw_m9 216 rfl) rfl
theorem q2276 : (Jvm.Cond.methodLink "WatchStackLaw" (182 : Nat) ({ cls := "WatchStackModel", name := "sleeps", desc := "(II)I" } : Jvm.MethodName)) ∈ lw_all := lw_g (lw_at lw_m9 220 rfl) rfl
theorem q2280 : (Jvm.Cond.methodLink "WatchStackLaw" (186 : Nat) ({ cls := "WatchStackModel", name := "caught", desc := "(I)I" } : Jvm.MethodName)) ∈ lw_all := lw_g (lw_at lw_m9 224 rfl) rfl
theorem q2292 : (Jvm.Cond.methodLink "WatchStackLaw" (190 : Nat) ({ cls := "WatchStackModel", name := "without", desc := "(I)I" } : Jvm.MethodName)) ∈ lw_all := lw_g (lw_at lw_m9 236 rfl) rfl
theorem q2300 : (Jvm.Cond.methodLink "WatchStackLaw" (194 : Nat) ({ cls := "WatchStackModel", name := "blame", desc := "()I" } : Jvm.MethodName)) ∈ lw_all := lw_g (lw_at lw_m10 4 rfl) rfl
theorem q2304 : (Jvm.Cond.methodLink "WatchStackLaw" (198 : Nat) ({ cls := "WatchStackModel", name := "with", desc := "(III)I" } : Jvm.MethodName)) ∈ lw_all := lw_g (lw_at lw_m10 8 rfl) rfl
theorem q2314 : (Jvm.Cond.methodLink "WatchStackLaw" (202 : Nat) ({ cls := "WatchStackModel", name := "tight", desc := "(I)I" } : Jvm.MethodName)) ∈ lw_all := lw_g (lw_at lw_m10 18 rfl) rfl
theorem q2318 : (Jvm.Cond.methodLink "WatchStackLaw" (206 : Nat) ({ cls := "WatchStackModel", name := "loose", desc := "(I)I" } : Jvm.MethodName)) ∈ lw_all := lw_g (lw_at lw_m10 22 rfl) rfl
theorem q2322 : (Jvm.Cond.methodLink "WatchStackLaw" (210 : Nat) ({ cls := "WatchStackModel", name := "longest", desc := "(II)I" } : Jvm.MethodName)) ∈ lw_all := lw_g (lw_at lw_m10 26 rfl) rfl
theorem q2334 : (Jvm.Cond.methodLink "WatchStackLaw" (214 : Nat) ({ cls := "WatchStackModel", name := "silent", desc := "(II)I" } : Jvm.MethodName)) ∈ lw_all := lw_g (lw_at lw_m10 38 rfl) rfl
theorem q2338 : (Jvm.Cond.methodLink "WatchStackLaw" (218 : Nat) ({ cls := "WatchStackModel", name := "inject", desc := "(IIIII)I" } : Jvm.MethodName)) ∈ lw_all := lw_g (lw_at lw_m10 42 rfl) rfl
theorem q2348 : (Jvm.Cond.methodLink "WatchStackLaw" (222 : Nat) ({ cls := "WatchStackModel", name := "undo", desc := "()I" } : Jvm.MethodName)) ∈ lw_all := lw_g (lw_at lw_m10 52 rfl) rfl
theorem q2352 : (Jvm.Cond.methodLink "WatchStackLaw" (226 : Nat) ({ cls := "WatchStackModel", name := "anew", desc := "()I" } : Jvm.MethodName)) ∈ lw_all := lw_g (lw_at lw_m10 56 rfl) rfl
theorem q2356 : (Jvm.Cond.methodLink "WatchStackLaw" (230 : Nat) ({ cls := "WatchStackModel", name := "count", desc := "(I)I" } : Jvm.MethodName)) ∈ lw_all := lw_g (lw_at lw_m10 60 rfl) rfl

theorem q2394 : (Jvm.Cond.castable "[B" "java/lang/Object") ∈ lw_tbl := lw_at lw_m10 98 rfl
set_option maxRecDepth 100000

theorem q2401 : (Jvm.Cond.castable "[D" "java/lang/Object") ∈ lw_tbl := lw_at lw_m10 105 rfl
set_option maxRecDepth 100000

theorem q2400 : (Jvm.Cond.castable "[F" "java/lang/Object") ∈ lw_tbl := lw_at lw_m10 104 rfl
set_option maxRecDepth 100000

theorem q1484 : (Jvm.Cond.sameMethod "[I" "java/lang/Object" "clone" "()Ljava/lang/Object;") ∈ lw_all := lw_g (lw_at lw_m6 148 rfl) rfl
set_option maxRecDepth 100000
theorem q1487 : (Jvm.Cond.selects "[I" ({ cls := "[I", name := "clone", desc := "()Ljava/lang/Object;" } : Jvm.MethodName) ({ cls := "java/lang/Object", name := "clone", desc := "()Ljava/lang/Object;" } : Jvm.MethodName)) ∈ lw_all := lw_g (lw_at lw_m6 151 rfl) rfl
theorem q1488 : (Jvm.Cond.castable "[I" "java/lang/Cloneable") ∈ lw_tbl := lw_at lw_m6 152 rfl
theorem q2391 : (Jvm.Cond.castable "[I" "java/lang/Object") ∈ lw_tbl := lw_at lw_m10 95 rfl

theorem q2395 : (Jvm.Cond.castable "[LWatchStack$Life;" "java/lang/Object") ∈ lw_tbl := lw_at lw_m10 99 rfl
set_option maxRecDepth 100000

theorem q2393 : (Jvm.Cond.castable "[LWatchStack$Rung;" "java/lang/Object") ∈ lw_tbl := lw_at lw_m10 97 rfl
set_option maxRecDepth 100000

theorem q2398 : (Jvm.Cond.castable "[LWatchStack$TaskNote;" "java/lang/Object") ∈ lw_tbl := lw_at lw_m10 102 rfl
set_option maxRecDepth 100000

theorem q2392 : (Jvm.Cond.castable "[LWatchStack$Told;" "java/lang/Object") ∈ lw_tbl := lw_at lw_m10 96 rfl
set_option maxRecDepth 100000

theorem q2399 : (Jvm.Cond.castable "[LWatchStack$WatcherNote;" "java/lang/Object") ∈ lw_tbl := lw_at lw_m10 103 rfl
set_option maxRecDepth 100000

theorem q2387 : (Jvm.Cond.sameMethod "[Ljava/lang/Object;" "java/lang/Object" "getClass" "()Ljava/lang/Class;") ∈ lw_all := lw_g (lw_at lw_m10 91 rfl) rfl
set_option maxRecDepth 100000
theorem q2388 : (Jvm.Cond.selects "[Ljava/lang/Object;" ({ cls := "java/lang/Object", name := "getClass", desc := "()Ljava/lang/Class;" } : Jvm.MethodName) ({ cls := "java/lang/Object", name := "getClass", desc := "()Ljava/lang/Class;" } : Jvm.MethodName)) ∈ lw_all := lw_g (lw_at lw_m10 92 rfl) rfl
theorem q2390 : (Jvm.Cond.castable "[Ljava/lang/Object;" "java/lang/Object") ∈ lw_tbl := lw_at lw_m10 94 rfl

theorem q2397 : (Jvm.Cond.castable "[Ljava/lang/String;" "java/lang/Object") ∈ lw_tbl := lw_at lw_m10 101 rfl
set_option maxRecDepth 100000

theorem q2396 : (Jvm.Cond.castable "[Z" "java/lang/Object") ∈ lw_tbl := lw_at lw_m10 100 rfl
set_option maxRecDepth 100000

theorem q167 : (Jvm.Cond.initialized "java/lang/Number") ∈ lw_all := lw_g (lw_at lw_m1 31 rfl) rfl
set_option maxRecDepth 100000

theorem q165 : (Jvm.Cond.initialized "java/lang/System") ∈ lw_all := lw_g (lw_at lw_m1 29 rfl) rfl
set_option maxRecDepth 100000
theorem q917 : (Jvm.Cond.static ({ cls := "java/lang/System", name := "arraycopy", desc := "(Ljava/lang/Object;ILjava/lang/Object;II)V" } : Jvm.MethodName)) ∈ lw_all := lw_g (lw_at lw_m4 61 rfl) rfl
theorem q918 : (Jvm.Cond.native ({ cls := "java/lang/System", name := "arraycopy", desc := "(Ljava/lang/Object;ILjava/lang/Object;II)V" } : Jvm.MethodName)) ∈ lw_all := lw_g (lw_at lw_m4 62 rfl) rfl

theorem q1570 : (Jvm.Cond.interfaceMethod "java/util/Collection" "java/util/Collection" "toArray" "()[Ljava/lang/Object;") ∈ lw_tbl := lw_at lw_m6 234 rfl
set_option maxRecDepth 100000
theorem q1571 : (Jvm.Cond.declares ({ cls := "java/util/Collection", name := "toArray", desc := "()[Ljava/lang/Object;" } : Jvm.MethodName)) ∈ lw_tbl := lw_at lw_m6 235 rfl

theorem q201 : (Jvm.Cond.arrayOver (Jvm.ClassFile.FieldType.object "java/lang/Object")) ∈ lw_tbl := lw_at lw_m1 65 rfl
set_option maxRecDepth 100000
theorem q263 : (Jvm.Cond.arrayClass Jvm.ClassFile.FieldType.int) ∈ lw_all := lw_g (lw_at lw_m1 127 rfl) rfl
theorem q264 : (Jvm.Cond.arrayOver (Jvm.ClassFile.FieldType.object "WatchStack$Told")) ∈ lw_tbl := lw_at lw_m1 128 rfl
theorem q266 : (Jvm.Cond.arrayOver (Jvm.ClassFile.FieldType.object "WatchStack$Rung")) ∈ lw_tbl := lw_at lw_m1 130 rfl
theorem q276 : (Jvm.Cond.arrayClass Jvm.ClassFile.FieldType.byte) ∈ lw_all := lw_g (lw_at lw_m1 140 rfl) rfl
theorem q314 : (Jvm.Cond.arrayOver (Jvm.ClassFile.FieldType.object "WatchStack$Life")) ∈ lw_tbl := lw_at lw_m1 178 rfl
theorem q325 : (Jvm.Cond.arrayClass Jvm.ClassFile.FieldType.boolean) ∈ lw_all := lw_g (lw_at lw_m1 189 rfl) rfl
theorem q590 : (Jvm.Cond.arrayOver (Jvm.ClassFile.FieldType.object "java/lang/String")) ∈ lw_tbl := lw_at lw_m2 214 rfl
theorem q1395 : (Jvm.Cond.arrayOver (Jvm.ClassFile.FieldType.object "WatchStack$TaskNote")) ∈ lw_tbl := lw_at lw_m6 59 rfl
theorem q1397 : (Jvm.Cond.arrayOver (Jvm.ClassFile.FieldType.object "WatchStack$WatcherNote")) ∈ lw_tbl := lw_at lw_m6 61 rfl
theorem q1775 : (Jvm.Cond.arrayClass Jvm.ClassFile.FieldType.float) ∈ lw_all := lw_g (lw_at lw_m7 199 rfl) rfl
theorem q1776 : (Jvm.Cond.arrayClass Jvm.ClassFile.FieldType.double) ∈ lw_all := lw_g (lw_at lw_m7 200 rfl) rfl
