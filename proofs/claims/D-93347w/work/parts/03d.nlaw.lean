/-! the law's own entry -/
set_option maxRecDepth 100000
abbrev cL_law : ByteArray := code
def dkwL_law_69 : List UInt8 := [43, 182, 0, 237, 44, 182, 0, 240, 159, 0, 5, 3, 172, 132, 3, 5, 167, 248, 220, 4, 172]
abbrev dktL_law_69 : List UInt8 := dkwL_law_69 ++ []
def dkwL_law_68 : List UInt8 := [4, 96, 46, 182, 0, 232, 159, 0, 31, 3, 172, 43, 182, 0, 233, 44, 182, 0, 236, 159, 0, 18, 3, 172]
abbrev dktL_law_68 : List UInt8 := dkwL_law_68 ++ dktL_law_69
def dkwL_law_67 : List UInt8 := [29, 4, 96, 46, 182, 0, 228, 159, 0, 54, 3, 172, 43, 42, 29, 4, 96, 46, 182, 0, 229, 44, 42, 29]
abbrev dktL_law_67 : List UInt8 := dkwL_law_67 ++ dktL_law_68
def dkwL_law_66 : List UInt8 := [42, 29, 6, 96, 46, 182, 0, 224, 159, 0, 77, 3, 172, 43, 42, 29, 4, 96, 46, 182, 0, 225, 44, 42]
abbrev dktL_law_66 : List UInt8 := dkwL_law_66 ++ dktL_law_67
def dkwL_law_65 : List UInt8 := [42, 29, 5, 96, 46, 42, 29, 6, 96, 46, 182, 0, 221, 44, 42, 29, 4, 96, 46, 42, 29, 5, 96, 46]
abbrev dktL_law_65 : List UInt8 := dkwL_law_65 ++ dktL_law_66
def dkwL_law_64 : List UInt8 := [42, 29, 4, 96, 46, 42, 29, 5, 96, 46, 182, 0, 220, 159, 0, 120, 3, 172, 43, 42, 29, 4, 96, 46]
abbrev dktL_law_64 : List UInt8 := dkwL_law_64 ++ dktL_law_65
def dkwL_law_63 : List UInt8 := [46, 182, 0, 216, 159, 0, 153, 3, 172, 43, 42, 29, 4, 96, 46, 42, 29, 5, 96, 46, 182, 0, 217, 44]
abbrev dktL_law_63 : List UInt8 := dkwL_law_63 ++ dktL_law_64
def dkwL_law_62 : List UInt8 := [46, 42, 29, 6, 96, 46, 182, 0, 213, 44, 42, 29, 4, 96, 46, 42, 29, 5, 96, 46, 42, 29, 6, 96]
abbrev dktL_law_62 : List UInt8 := dkwL_law_62 ++ dktL_law_63
def dkwL_law_61 : List UInt8 := [46, 42, 29, 6, 96, 46, 182, 0, 212, 159, 0, 196, 3, 172, 43, 42, 29, 4, 96, 46, 42, 29, 5, 96]
abbrev dktL_law_61 : List UInt8 := dkwL_law_61 ++ dktL_law_62
def dkwL_law_60 : List UInt8 := [46, 42, 29, 5, 96, 46, 42, 29, 6, 96, 46, 182, 0, 209, 44, 42, 29, 4, 96, 46, 42, 29, 5, 96]
abbrev dktL_law_60 : List UInt8 := dkwL_law_60 ++ dktL_law_61
def dkwL_law_59 : List UInt8 := [46, 42, 29, 5, 96, 46, 42, 29, 6, 96, 46, 182, 0, 208, 159, 0, 239, 3, 172, 43, 42, 29, 4, 96]
abbrev dktL_law_59 : List UInt8 := dkwL_law_59 ++ dktL_law_60
def dkwL_law_58 : List UInt8 := [43, 42, 29, 4, 96, 46, 42, 29, 5, 96, 46, 42, 29, 6, 96, 46, 182, 0, 205, 44, 42, 29, 4, 96]
abbrev dktL_law_58 : List UInt8 := dkwL_law_58 ++ dktL_law_59
def dkwL_law_57 : List UInt8 := [44, 42, 29, 4, 96, 46, 42, 29, 5, 96, 46, 42, 29, 6, 96, 46, 182, 0, 204, 159, 1, 26, 3, 172]
abbrev dktL_law_57 : List UInt8 := dkwL_law_57 ++ dktL_law_58
def dkwL_law_56 : List UInt8 := [159, 1, 69, 3, 172, 43, 42, 29, 4, 96, 46, 42, 29, 5, 96, 46, 42, 29, 6, 96, 46, 182, 0, 201]
abbrev dktL_law_56 : List UInt8 := dkwL_law_56 ++ dktL_law_57
def dkwL_law_55 : List UInt8 := [182, 0, 197, 44, 42, 29, 4, 96, 46, 42, 29, 5, 96, 46, 42, 29, 6, 96, 46, 182, 0, 200]
abbrev dktL_law_55 : List UInt8 := dkwL_law_55 ++ dktL_law_56
def dkwL_law_54 : List UInt8 := [182, 0, 196, 159, 1, 112, 3, 172, 43, 42, 29, 4, 96, 46, 42, 29, 5, 96, 46, 42, 29, 6, 96, 46]
abbrev dktL_law_54 : List UInt8 := dkwL_law_54 ++ dktL_law_55
def dkwL_law_53 : List UInt8 := [29, 6, 96, 46, 182, 0, 193, 44, 42, 29, 4, 96, 46, 42, 29, 5, 96, 46, 42, 29, 6, 96, 46]
abbrev dktL_law_53 : List UInt8 := dkwL_law_53 ++ dktL_law_54
def dkwL_law_52 : List UInt8 := [182, 0, 189, 44, 182, 0, 192, 159, 1, 155, 3, 172, 43, 42, 29, 4, 96, 46, 42, 29, 5, 96, 46, 42]
abbrev dktL_law_52 : List UInt8 := dkwL_law_52 ++ dktL_law_53
def dkwL_law_51 : List UInt8 := [4, 96, 46, 42, 29, 5, 96, 46, 42, 29, 6, 96, 46, 182, 0, 188, 159, 1, 168, 3, 172, 43]
abbrev dktL_law_51 : List UInt8 := dkwL_law_51 ++ dktL_law_52
def dkwL_law_50 : List UInt8 := [3, 172, 43, 42, 29, 4, 96, 46, 42, 29, 5, 96, 46, 42, 29, 6, 96, 46, 182, 0, 185, 44, 42, 29]
abbrev dktL_law_50 : List UInt8 := dkwL_law_50 ++ dktL_law_51
def dkwL_law_49 : List UInt8 := [29, 5, 96, 46, 182, 0, 181, 44, 42, 29, 4, 96, 46, 42, 29, 5, 96, 46, 182, 0, 184, 159, 1, 211]
abbrev dktL_law_49 : List UInt8 := dkwL_law_49 ++ dktL_law_50
def dkwL_law_48 : List UInt8 := [182, 0, 177, 44, 42, 29, 4, 96, 46, 182, 0, 180, 159, 1, 244, 3, 172, 43, 42, 29, 4, 96, 46, 42]
abbrev dktL_law_48 : List UInt8 := dkwL_law_48 ++ dktL_law_49
def dkwL_law_47 : List UInt8 := [29, 4, 96, 46, 42, 29, 5, 96, 46, 182, 0, 176, 159, 2, 11, 3, 172, 43, 42, 29, 4, 96, 46]
abbrev dktL_law_47 : List UInt8 := dkwL_law_47 ++ dktL_law_48
def dkwL_law_46 : List UInt8 := [182, 0, 172, 159, 2, 44, 3, 172, 43, 42, 29, 4, 96, 46, 42, 29, 5, 96, 46, 182, 0, 173, 44, 42]
abbrev dktL_law_46 : List UInt8 := dkwL_law_46 ++ dktL_law_47
def dkwL_law_45 : List UInt8 := [182, 0, 165, 44, 42, 29, 4, 96, 46, 182, 0, 168, 159, 2, 57, 3, 172, 43, 182, 0, 169, 44]
abbrev dktL_law_45 : List UInt8 := dkwL_law_45 ++ dktL_law_46
def dkwL_law_44 : List UInt8 := [159, 2, 93, 3, 172, 43, 182, 0, 161, 44, 182, 0, 164, 159, 2, 80, 3, 172, 43, 42, 29, 4, 96, 46]
abbrev dktL_law_44 : List UInt8 := dkwL_law_44 ++ dktL_law_45
def dkwL_law_43 : List UInt8 := [159, 2, 116, 3, 172, 43, 42, 29, 4, 96, 46, 182, 0, 157, 44, 42, 29, 4, 96, 46, 182, 0, 160]
abbrev dktL_law_43 : List UInt8 := dkwL_law_43 ++ dktL_law_44
def dkwL_law_42 : List UInt8 := [46, 42, 29, 7, 96, 46, 182, 0, 152, 159, 2, 129, 3, 172, 43, 182, 0, 153, 44, 182, 0, 156]
abbrev dktL_law_42 : List UInt8 := dkwL_law_42 ++ dktL_law_43
def dkwL_law_41 : List UInt8 := [46, 42, 29, 7, 96, 46, 182, 0, 149, 44, 42, 29, 4, 96, 46, 42, 29, 5, 96, 46, 42, 29, 6, 96]
abbrev dktL_law_41 : List UInt8 := dkwL_law_41 ++ dktL_law_42
def dkwL_law_40 : List UInt8 := [46, 182, 0, 148, 159, 2, 182, 3, 172, 43, 42, 29, 4, 96, 46, 42, 29, 5, 96, 46, 42, 29, 6, 96]
abbrev dktL_law_40 : List UInt8 := dkwL_law_40 ++ dktL_law_41
def dkwL_law_39 : List UInt8 := [96, 46, 182, 0, 144, 159, 2, 205, 3, 172, 43, 42, 29, 4, 96, 46, 182, 0, 145, 44, 42, 29, 4, 96]
abbrev dktL_law_39 : List UInt8 := dkwL_law_39 ++ dktL_law_40
def dkwL_law_38 : List UInt8 := [5, 96, 46, 182, 0, 140, 159, 2, 228, 3, 172, 43, 42, 29, 4, 96, 46, 182, 0, 141, 44, 42, 29, 4]
abbrev dktL_law_38 : List UInt8 := dkwL_law_38 ++ dktL_law_39
def dkwL_law_37 : List UInt8 := [3, 172, 43, 42, 29, 4, 96, 46, 42, 29, 5, 96, 46, 182, 0, 137, 44, 42, 29, 4, 96, 46, 42, 29]
abbrev dktL_law_37 : List UInt8 := dkwL_law_37 ++ dktL_law_38
def dkwL_law_36 : List UInt8 := [29, 5, 96, 46, 182, 0, 133, 44, 42, 29, 4, 96, 46, 42, 29, 5, 96, 46, 182, 0, 136, 159, 3, 5]
abbrev dktL_law_36 : List UInt8 := dkwL_law_36 ++ dktL_law_37
def dkwL_law_35 : List UInt8 := [182, 0, 129, 44, 42, 29, 4, 96, 46, 182, 0, 132, 159, 3, 38, 3, 172, 43, 42, 29, 4, 96, 46, 42]
abbrev dktL_law_35 : List UInt8 := dkwL_law_35 ++ dktL_law_36
def dkwL_law_34 : List UInt8 := [29, 4, 96, 46, 42, 29, 5, 96, 46, 182, 0, 128, 159, 3, 61, 3, 172, 43, 42, 29, 4, 96, 46]
abbrev dktL_law_34 : List UInt8 := dkwL_law_34 ++ dktL_law_35
def dkwL_law_33 : List UInt8 := [182, 0, 124, 159, 3, 94, 3, 172, 43, 42, 29, 4, 96, 46, 42, 29, 5, 96, 46, 182, 0, 125, 44, 42]
abbrev dktL_law_33 : List UInt8 := dkwL_law_33 ++ dktL_law_34
def dkwL_law_32 : List UInt8 := [44, 182, 0, 120, 159, 3, 117, 3, 172, 43, 42, 29, 4, 96, 46, 182, 0, 121, 44, 42, 29, 4, 96, 46]
abbrev dktL_law_32 : List UInt8 := dkwL_law_32 ++ dktL_law_33
def dkwL_law_31 : List UInt8 := [4, 96, 46, 182, 0, 113, 44, 42, 29, 4, 96, 46, 182, 0, 116, 159, 3, 130, 3, 172, 43, 182, 0, 117]
abbrev dktL_law_31 : List UInt8 := dkwL_law_31 ++ dktL_law_32
def dkwL_law_30 : List UInt8 := [29, 4, 96, 46, 182, 0, 109, 44, 42, 29, 4, 96, 46, 182, 0, 112, 159, 3, 153, 3, 172, 43, 42, 29]
abbrev dktL_law_30 : List UInt8 := dkwL_law_30 ++ dktL_law_31
def dkwL_law_29 : List UInt8 := [182, 0, 105, 44, 42, 29, 4, 96, 46, 42, 29, 5, 96, 46, 182, 0, 108, 159, 3, 176, 3, 172, 43, 42]
abbrev dktL_law_29 : List UInt8 := dkwL_law_29 ++ dktL_law_30
def dkwL_law_28 : List UInt8 := [42, 29, 6, 96, 46, 182, 0, 104, 159, 3, 209, 3, 172, 43, 42, 29, 4, 96, 46, 42, 29, 5, 96, 46]
abbrev dktL_law_28 : List UInt8 := dkwL_law_28 ++ dktL_law_29
def dkwL_law_27 : List UInt8 := [42, 29, 5, 96, 46, 42, 29, 6, 96, 46, 182, 0, 101, 44, 42, 29, 4, 96, 46, 42, 29, 5, 96, 46]
abbrev dktL_law_27 : List UInt8 := dkwL_law_27 ++ dktL_law_28
def dkwL_law_26 : List UInt8 := [46, 182, 0, 97, 44, 42, 29, 4, 96, 46, 182, 0, 100, 159, 3, 252, 3, 172, 43, 42, 29, 4, 96, 46]
abbrev dktL_law_26 : List UInt8 := dkwL_law_26 ++ dktL_law_27
def dkwL_law_25 : List UInt8 := [96, 46, 182, 0, 93, 44, 42, 29, 4, 96, 46, 182, 0, 96, 159, 4, 19, 3, 172, 43, 42, 29, 4, 96]
abbrev dktL_law_25 : List UInt8 := dkwL_law_25 ++ dktL_law_26
def dkwL_law_24 : List UInt8 := [4, 96, 46, 182, 0, 89, 44, 42, 29, 4, 96, 46, 182, 0, 92, 159, 4, 42, 3, 172, 43, 42, 29, 4]
abbrev dktL_law_24 : List UInt8 := dkwL_law_24 ++ dktL_law_25
def dkwL_law_23 : List UInt8 := [182, 0, 84, 159, 4, 78, 3, 172, 43, 182, 0, 85, 44, 182, 0, 88, 159, 4, 65, 3, 172, 43, 42, 29]
abbrev dktL_law_23 : List UInt8 := dkwL_law_23 ++ dktL_law_24
def dkwL_law_22 : List UInt8 := [182, 0, 80, 159, 4, 101, 3, 172, 43, 42, 29, 4, 96, 46, 182, 0, 81, 44, 42, 29, 4, 96, 46]
abbrev dktL_law_22 : List UInt8 := dkwL_law_22 ++ dktL_law_23
def dkwL_law_21 : List UInt8 := [182, 0, 76, 159, 4, 124, 3, 172, 43, 42, 29, 4, 96, 46, 182, 0, 77, 44, 42, 29, 4, 96, 46]
abbrev dktL_law_21 : List UInt8 := dkwL_law_21 ++ dktL_law_22
def dkwL_law_20 : List UInt8 := [182, 0, 72, 159, 4, 147, 3, 172, 43, 42, 29, 4, 96, 46, 182, 0, 73, 44, 42, 29, 4, 96, 46]
abbrev dktL_law_20 : List UInt8 := dkwL_law_20 ++ dktL_law_21
def dkwL_law_19 : List UInt8 := [182, 0, 68, 159, 4, 170, 3, 172, 43, 42, 29, 4, 96, 46, 182, 0, 69, 44, 42, 29, 4, 96, 46]
abbrev dktL_law_19 : List UInt8 := dkwL_law_19 ++ dktL_law_20
def dkwL_law_18 : List UInt8 := [159, 4, 196, 3, 172, 43, 182, 0, 61, 44, 182, 0, 64, 159, 4, 183, 3, 172, 43, 182, 0, 65, 44]
abbrev dktL_law_18 : List UInt8 := dkwL_law_18 ++ dktL_law_19
def dkwL_law_17 : List UInt8 := [16, 32, 121, 42, 29, 5, 96, 46, 133, 20, 0, 54, 127, 129, 42, 29, 6, 96, 46, 182, 0, 60]
abbrev dktL_law_17 : List UInt8 := dkwL_law_17 ++ dktL_law_18
def dkwL_law_16 : List UInt8 := [96, 46, 133, 20, 0, 54, 127, 129, 42, 29, 6, 96, 46, 182, 0, 56, 44, 42, 29, 4, 96, 46, 133]
abbrev dktL_law_16 : List UInt8 := dkwL_law_16 ++ dktL_law_17
def dkwL_law_15 : List UInt8 := [4, 96, 46, 182, 0, 53, 159, 5, 3, 3, 172, 43, 42, 29, 4, 96, 46, 133, 16, 32, 121, 42, 29, 5]
abbrev dktL_law_15 : List UInt8 := dkwL_law_15 ++ dktL_law_16
def dkwL_law_14 : List UInt8 := [182, 0, 45, 44, 182, 0, 49, 159, 5, 26, 3, 172, 43, 42, 29, 4, 96, 46, 182, 0, 50, 44, 42, 29]
abbrev dktL_law_14 : List UInt8 := dkwL_law_14 ++ dktL_law_15
def dkwL_law_13 : List UInt8 := [42, 29, 4, 96, 46, 182, 0, 40, 44, 42, 29, 4, 96, 46, 182, 0, 44, 159, 5, 39, 3, 172, 43]
abbrev dktL_law_13 : List UInt8 := dkwL_law_13 ++ dktL_law_14
def dkwL_law_12 : List UInt8 := [46, 182, 0, 36, 44, 42, 29, 4, 96, 46, 42, 29, 5, 96, 46, 182, 0, 39, 159, 5, 62, 3, 172, 43]
abbrev dktL_law_12 : List UInt8 := dkwL_law_12 ++ dktL_law_13
def dkwL_law_11 : List UInt8 := [46, 42, 29, 7, 96, 46, 182, 0, 35, 159, 5, 95, 3, 172, 43, 42, 29, 4, 96, 46, 42, 29, 5, 96]
abbrev dktL_law_11 : List UInt8 := dkwL_law_11 ++ dktL_law_12
def dkwL_law_10 : List UInt8 := [46, 42, 29, 7, 96, 46, 182, 0, 31, 44, 42, 29, 4, 96, 46, 42, 29, 5, 96, 46, 42, 29, 6, 96]
abbrev dktL_law_10 : List UInt8 := dkwL_law_10 ++ dktL_law_11
def dkwL_law_9 : List UInt8 := [46, 182, 0, 30, 159, 5, 148, 3, 172, 43, 42, 29, 4, 96, 46, 42, 29, 5, 96, 46, 42, 29, 6, 96]
abbrev dktL_law_9 : List UInt8 := dkwL_law_9 ++ dktL_law_10
def dkwL_law_8 : List UInt8 := [43, 42, 29, 4, 96, 46, 42, 29, 5, 96, 46, 182, 0, 27, 44, 42, 29, 4, 96, 46, 42, 29, 5, 96]
abbrev dktL_law_8 : List UInt8 := dkwL_law_8 ++ dktL_law_9
def dkwL_law_7 : List UInt8 := [44, 42, 29, 4, 96, 46, 42, 29, 5, 96, 46, 42, 29, 6, 96, 46, 182, 0, 26, 159, 5, 181, 3, 172]
abbrev dktL_law_7 : List UInt8 := dkwL_law_7 ++ dktL_law_8
def dkwL_law_6 : List UInt8 := [159, 5, 224, 3, 172, 43, 42, 29, 4, 96, 46, 42, 29, 5, 96, 46, 42, 29, 6, 96, 46, 182, 0, 23]
abbrev dktL_law_6 : List UInt8 := dkwL_law_6 ++ dktL_law_7
def dkwL_law_5 : List UInt8 := [46, 42, 29, 5, 96, 46, 182, 0, 18, 44, 42, 29, 4, 96, 46, 42, 29, 5, 96, 46, 182, 0, 22]
abbrev dktL_law_5 : List UInt8 := dkwL_law_5 ++ dktL_law_6
def dkwL_law_4 : List UInt8 := [46, 42, 29, 5, 96, 46, 42, 29, 6, 96, 46, 182, 0, 17, 159, 6, 1, 3, 172, 43, 42, 29, 4, 96]
abbrev dktL_law_4 : List UInt8 := dkwL_law_4 ++ dktL_law_5
def dkwL_law_3 : List UInt8 := [43, 42, 29, 4, 96, 46, 42, 29, 5, 96, 46, 42, 29, 6, 96, 46, 182, 0, 13, 44, 42, 29, 4, 96]
abbrev dktL_law_3 : List UInt8 := dkwL_law_3 ++ dktL_law_4
def dkwL_law_2 : List UInt8 := [170, 0, 0, 0, 0, 0, 7, 19, 0, 0, 0, 0, 0, 0, 0, 54, 0, 0, 0, 236, 0, 0, 1, 23, 0, 0, 1, 56, 0, 0, 1, 99, 0, 0, 1, 132, 0, 0, 1, 185, 0, 0, 1, 218, 0, 0, 1, 241, 0, 0, 1, 254, 0, 0, 2, 21, 0, 0, 2, 84, 0, 0, 2, 97, 0, 0, 2, 110, 0, 0, 2, 133, 0, 0, 2, 156, 0, 0, 2, 179, 0, 0, 2, 202, 0, 0, 2, 215, 0, 0, 2, 238, 0, 0, 3, 5, 0, 0, 3, 28, 0, 0, 3, 71, 0, 0, 3, 104, 0, 0, 3, 127, 0, 0, 3, 150, 0, 0, 3, 163, 0, 0, 3, 186, 0, 0, 3, 219, 0, 0, 3, 242, 0, 0, 4, 19, 0, 0, 4, 52, 0, 0, 4, 75, 0, 0, 4, 98, 0, 0, 4, 151, 0, 0, 4, 164, 0, 0, 4, 187, 0, 0, 4, 200, 0, 0, 4, 223, 0, 0, 4, 236, 0, 0, 5, 13, 0, 0, 5, 36, 0, 0, 5, 69, 0, 0, 5, 112, 0, 0, 5, 125, 0, 0, 5, 168, 0, 0, 5, 211, 0, 0, 5, 254, 0, 0, 6, 41, 0, 0, 6, 84, 0, 0, 6, 127, 0, 0, 6, 160, 0, 0, 6, 203, 0, 0, 6, 226, 0, 0, 6, 249, 0, 0, 7, 6]
abbrev dktL_law_2 : List UInt8 := dkwL_law_2 ++ dktL_law_3
def dkwL_law_1 : List UInt8 := [163, 7, 34, 42, 29, 46, 16, 63, 126]
abbrev dktL_law_1 : List UInt8 := dkwL_law_1 ++ dktL_law_2
def dkwL_law_0 : List UInt8 := [187, 0, 7, 89, 183, 0, 9, 76, 187, 0, 10, 89, 183, 0, 12, 77, 3, 62, 29, 42, 190, 8, 100]
abbrev dktL_law_0 : List UInt8 := dkwL_law_0 ++ dktL_law_1
theorem dksL_law_0 : cL_law.data.toList.drop 0 = dktL_law_0 := by decide +kernel
theorem dksL_law_1 : cL_law.data.toList.drop 23 = dktL_law_1 := dk_seg dksL_law_0 23 rfl rfl
theorem dksL_law_2 : cL_law.data.toList.drop 32 = dktL_law_2 := dk_seg dksL_law_1 9 rfl rfl
theorem dksL_law_3 : cL_law.data.toList.drop 268 = dktL_law_3 := dk_seg dksL_law_2 236 rfl rfl
theorem dksL_law_4 : cL_law.data.toList.drop 292 = dktL_law_4 := dk_seg dksL_law_3 24 rfl rfl
theorem dksL_law_5 : cL_law.data.toList.drop 316 = dktL_law_5 := dk_seg dksL_law_4 24 rfl rfl
theorem dksL_law_6 : cL_law.data.toList.drop 339 = dktL_law_6 := dk_seg dksL_law_5 23 rfl rfl
theorem dksL_law_7 : cL_law.data.toList.drop 363 = dktL_law_7 := dk_seg dksL_law_6 24 rfl rfl
theorem dksL_law_8 : cL_law.data.toList.drop 387 = dktL_law_8 := dk_seg dksL_law_7 24 rfl rfl
theorem dksL_law_9 : cL_law.data.toList.drop 411 = dktL_law_9 := dk_seg dksL_law_8 24 rfl rfl
theorem dksL_law_10 : cL_law.data.toList.drop 435 = dktL_law_10 := dk_seg dksL_law_9 24 rfl rfl
theorem dksL_law_11 : cL_law.data.toList.drop 459 = dktL_law_11 := dk_seg dksL_law_10 24 rfl rfl
theorem dksL_law_12 : cL_law.data.toList.drop 483 = dktL_law_12 := dk_seg dksL_law_11 24 rfl rfl
theorem dksL_law_13 : cL_law.data.toList.drop 507 = dktL_law_13 := dk_seg dksL_law_12 24 rfl rfl
theorem dksL_law_14 : cL_law.data.toList.drop 530 = dktL_law_14 := dk_seg dksL_law_13 23 rfl rfl
theorem dksL_law_15 : cL_law.data.toList.drop 554 = dktL_law_15 := dk_seg dksL_law_14 24 rfl rfl
theorem dksL_law_16 : cL_law.data.toList.drop 578 = dktL_law_16 := dk_seg dksL_law_15 24 rfl rfl
theorem dksL_law_17 : cL_law.data.toList.drop 601 = dktL_law_17 := dk_seg dksL_law_16 23 rfl rfl
theorem dksL_law_18 : cL_law.data.toList.drop 623 = dktL_law_18 := dk_seg dksL_law_17 22 rfl rfl
theorem dksL_law_19 : cL_law.data.toList.drop 646 = dktL_law_19 := dk_seg dksL_law_18 23 rfl rfl
theorem dksL_law_20 : cL_law.data.toList.drop 669 = dktL_law_20 := dk_seg dksL_law_19 23 rfl rfl
theorem dksL_law_21 : cL_law.data.toList.drop 692 = dktL_law_21 := dk_seg dksL_law_20 23 rfl rfl
theorem dksL_law_22 : cL_law.data.toList.drop 715 = dktL_law_22 := dk_seg dksL_law_21 23 rfl rfl
theorem dksL_law_23 : cL_law.data.toList.drop 738 = dktL_law_23 := dk_seg dksL_law_22 23 rfl rfl
theorem dksL_law_24 : cL_law.data.toList.drop 762 = dktL_law_24 := dk_seg dksL_law_23 24 rfl rfl
theorem dksL_law_25 : cL_law.data.toList.drop 786 = dktL_law_25 := dk_seg dksL_law_24 24 rfl rfl
theorem dksL_law_26 : cL_law.data.toList.drop 810 = dktL_law_26 := dk_seg dksL_law_25 24 rfl rfl
theorem dksL_law_27 : cL_law.data.toList.drop 834 = dktL_law_27 := dk_seg dksL_law_26 24 rfl rfl
theorem dksL_law_28 : cL_law.data.toList.drop 858 = dktL_law_28 := dk_seg dksL_law_27 24 rfl rfl
theorem dksL_law_29 : cL_law.data.toList.drop 882 = dktL_law_29 := dk_seg dksL_law_28 24 rfl rfl
theorem dksL_law_30 : cL_law.data.toList.drop 906 = dktL_law_30 := dk_seg dksL_law_29 24 rfl rfl
theorem dksL_law_31 : cL_law.data.toList.drop 930 = dktL_law_31 := dk_seg dksL_law_30 24 rfl rfl
theorem dksL_law_32 : cL_law.data.toList.drop 954 = dktL_law_32 := dk_seg dksL_law_31 24 rfl rfl
theorem dksL_law_33 : cL_law.data.toList.drop 978 = dktL_law_33 := dk_seg dksL_law_32 24 rfl rfl
theorem dksL_law_34 : cL_law.data.toList.drop 1002 = dktL_law_34 := dk_seg dksL_law_33 24 rfl rfl
theorem dksL_law_35 : cL_law.data.toList.drop 1025 = dktL_law_35 := dk_seg dksL_law_34 23 rfl rfl
theorem dksL_law_36 : cL_law.data.toList.drop 1049 = dktL_law_36 := dk_seg dksL_law_35 24 rfl rfl
theorem dksL_law_37 : cL_law.data.toList.drop 1073 = dktL_law_37 := dk_seg dksL_law_36 24 rfl rfl
theorem dksL_law_38 : cL_law.data.toList.drop 1097 = dktL_law_38 := dk_seg dksL_law_37 24 rfl rfl
theorem dksL_law_39 : cL_law.data.toList.drop 1121 = dktL_law_39 := dk_seg dksL_law_38 24 rfl rfl
theorem dksL_law_40 : cL_law.data.toList.drop 1145 = dktL_law_40 := dk_seg dksL_law_39 24 rfl rfl
theorem dksL_law_41 : cL_law.data.toList.drop 1169 = dktL_law_41 := dk_seg dksL_law_40 24 rfl rfl
theorem dksL_law_42 : cL_law.data.toList.drop 1193 = dktL_law_42 := dk_seg dksL_law_41 24 rfl rfl
theorem dksL_law_43 : cL_law.data.toList.drop 1215 = dktL_law_43 := dk_seg dksL_law_42 22 rfl rfl
theorem dksL_law_44 : cL_law.data.toList.drop 1238 = dktL_law_44 := dk_seg dksL_law_43 23 rfl rfl
theorem dksL_law_45 : cL_law.data.toList.drop 1262 = dktL_law_45 := dk_seg dksL_law_44 24 rfl rfl
theorem dksL_law_46 : cL_law.data.toList.drop 1284 = dktL_law_46 := dk_seg dksL_law_45 22 rfl rfl
theorem dksL_law_47 : cL_law.data.toList.drop 1308 = dktL_law_47 := dk_seg dksL_law_46 24 rfl rfl
theorem dksL_law_48 : cL_law.data.toList.drop 1331 = dktL_law_48 := dk_seg dksL_law_47 23 rfl rfl
theorem dksL_law_49 : cL_law.data.toList.drop 1355 = dktL_law_49 := dk_seg dksL_law_48 24 rfl rfl
theorem dksL_law_50 : cL_law.data.toList.drop 1379 = dktL_law_50 := dk_seg dksL_law_49 24 rfl rfl
theorem dksL_law_51 : cL_law.data.toList.drop 1403 = dktL_law_51 := dk_seg dksL_law_50 24 rfl rfl
theorem dksL_law_52 : cL_law.data.toList.drop 1425 = dktL_law_52 := dk_seg dksL_law_51 22 rfl rfl
theorem dksL_law_53 : cL_law.data.toList.drop 1449 = dktL_law_53 := dk_seg dksL_law_52 24 rfl rfl
theorem dksL_law_54 : cL_law.data.toList.drop 1472 = dktL_law_54 := dk_seg dksL_law_53 23 rfl rfl
theorem dksL_law_55 : cL_law.data.toList.drop 1496 = dktL_law_55 := dk_seg dksL_law_54 24 rfl rfl
theorem dksL_law_56 : cL_law.data.toList.drop 1518 = dktL_law_56 := dk_seg dksL_law_55 22 rfl rfl
theorem dksL_law_57 : cL_law.data.toList.drop 1542 = dktL_law_57 := dk_seg dksL_law_56 24 rfl rfl
theorem dksL_law_58 : cL_law.data.toList.drop 1566 = dktL_law_58 := dk_seg dksL_law_57 24 rfl rfl
theorem dksL_law_59 : cL_law.data.toList.drop 1590 = dktL_law_59 := dk_seg dksL_law_58 24 rfl rfl
theorem dksL_law_60 : cL_law.data.toList.drop 1614 = dktL_law_60 := dk_seg dksL_law_59 24 rfl rfl
theorem dksL_law_61 : cL_law.data.toList.drop 1638 = dktL_law_61 := dk_seg dksL_law_60 24 rfl rfl
theorem dksL_law_62 : cL_law.data.toList.drop 1662 = dktL_law_62 := dk_seg dksL_law_61 24 rfl rfl
theorem dksL_law_63 : cL_law.data.toList.drop 1686 = dktL_law_63 := dk_seg dksL_law_62 24 rfl rfl
theorem dksL_law_64 : cL_law.data.toList.drop 1710 = dktL_law_64 := dk_seg dksL_law_63 24 rfl rfl
theorem dksL_law_65 : cL_law.data.toList.drop 1734 = dktL_law_65 := dk_seg dksL_law_64 24 rfl rfl
theorem dksL_law_66 : cL_law.data.toList.drop 1758 = dktL_law_66 := dk_seg dksL_law_65 24 rfl rfl
theorem dksL_law_67 : cL_law.data.toList.drop 1782 = dktL_law_67 := dk_seg dksL_law_66 24 rfl rfl
theorem dksL_law_68 : cL_law.data.toList.drop 1806 = dktL_law_68 := dk_seg dksL_law_67 24 rfl rfl
theorem dksL_law_69 : cL_law.data.toList.drop 1830 = dktL_law_69 := dk_seg dksL_law_68 24 rfl rfl
theorem dL_law_0 : decode cL_law 0 = .ok (.new 7, 3) := dk_187 0 7 (dk_at dksL_law_0 0 rfl rfl)
theorem dL_law_3 : decode cL_law 3 = .ok (.dup, 1) := dk_89 (dk_at dksL_law_0 3 rfl rfl)
theorem dL_law_4 : decode cL_law 4 = .ok (.invokespecial 9, 3) := dk_183 0 9 (dk_at dksL_law_0 4 rfl rfl)
theorem dL_law_7 : decode cL_law 7 = .ok (.astore_n 1, 1) := dk_76 (dk_at dksL_law_0 7 rfl rfl)
theorem dL_law_8 : decode cL_law 8 = .ok (.new 10, 3) := dk_187 0 10 (dk_at dksL_law_0 8 rfl rfl)
theorem dL_law_11 : decode cL_law 11 = .ok (.dup, 1) := dk_89 (dk_at dksL_law_0 11 rfl rfl)
theorem dL_law_12 : decode cL_law 12 = .ok (.invokespecial 12, 3) := dk_183 0 12 (dk_at dksL_law_0 12 rfl rfl)
theorem dL_law_15 : decode cL_law 15 = .ok (.astore_n 2, 1) := dk_77 (dk_at dksL_law_0 15 rfl rfl)
theorem dL_law_16 : decode cL_law 16 = .ok (.iconst 0, 1) := dk_3 (dk_at dksL_law_0 16 rfl rfl)
theorem dL_law_17 : decode cL_law 17 = .ok (.istore_n 3, 1) := dk_62 (dk_at dksL_law_0 17 rfl rfl)
theorem dL_law_18 : decode cL_law 18 = .ok (.iload_n 3, 1) := dk_29 (dk_at dksL_law_0 18 rfl rfl)
theorem dL_law_19 : decode cL_law 19 = .ok (.aload_n 0, 1) := dk_42 (dk_at dksL_law_0 19 rfl rfl)
theorem dL_law_20 : decode cL_law 20 = .ok (.arraylength, 1) := dk_190 (dk_at dksL_law_0 20 rfl rfl)
theorem dL_law_21 : decode cL_law 21 = .ok (.iconst 5, 1) := dk_8 (dk_at dksL_law_0 21 rfl rfl)
theorem dL_law_22 : decode cL_law 22 = .ok (.isub, 1) := dk_100 (dk_at dksL_law_0 22 rfl rfl)
theorem dL_law_23 : decode cL_law 23 = .ok (.if_icmp .gt 1826, 3) := dk_163 7 34 (dk_at dksL_law_1 0 rfl rfl)
theorem dL_law_26 : decode cL_law 26 = .ok (.aload_n 0, 1) := dk_42 (dk_at dksL_law_1 3 rfl rfl)
theorem dL_law_27 : decode cL_law 27 = .ok (.iload_n 3, 1) := dk_29 (dk_at dksL_law_1 4 rfl rfl)
theorem dL_law_28 : decode cL_law 28 = .ok (.iaload, 1) := dk_46 (dk_at dksL_law_1 5 rfl rfl)
theorem dL_law_29 : decode cL_law 29 = .ok (.bipush 63, 2) := dk_16 63 (dk_at dksL_law_1 6 rfl rfl)
theorem dL_law_31 : decode cL_law 31 = .ok (.iand, 1) := dk_126 (dk_at dksL_law_1 8 rfl rfl)
theorem dL_law_32 : decode cL_law 32 = .ok (.tableswitch 1811 0 54 #[236, 279, 312, 355, 388, 441, 474, 497, 510, 533, 596, 609, 622, 645, 668, 691, 714, 727, 750, 773, 796, 839, 872, 895, 918, 931, 954, 987, 1010, 1043, 1076, 1099, 1122, 1175, 1188, 1211, 1224, 1247, 1260, 1293, 1316, 1349, 1392, 1405, 1448, 1491, 1534, 1577, 1620, 1663, 1696, 1739, 1762, 1785, 1798], 236) := by decide +kernel
theorem dL_law_268 : decode cL_law 268 = .ok (.aload_n 1, 1) := dk_43 (dk_at dksL_law_3 0 rfl rfl)
theorem dL_law_269 : decode cL_law 269 = .ok (.aload_n 0, 1) := dk_42 (dk_at dksL_law_3 1 rfl rfl)
theorem dL_law_270 : decode cL_law 270 = .ok (.iload_n 3, 1) := dk_29 (dk_at dksL_law_3 2 rfl rfl)
theorem dL_law_271 : decode cL_law 271 = .ok (.iconst 1, 1) := dk_4 (dk_at dksL_law_3 3 rfl rfl)
theorem dL_law_272 : decode cL_law 272 = .ok (.iadd, 1) := dk_96 (dk_at dksL_law_3 4 rfl rfl)
theorem dL_law_273 : decode cL_law 273 = .ok (.iaload, 1) := dk_46 (dk_at dksL_law_3 5 rfl rfl)
theorem dL_law_274 : decode cL_law 274 = .ok (.aload_n 0, 1) := dk_42 (dk_at dksL_law_3 6 rfl rfl)
theorem dL_law_275 : decode cL_law 275 = .ok (.iload_n 3, 1) := dk_29 (dk_at dksL_law_3 7 rfl rfl)
theorem dL_law_276 : decode cL_law 276 = .ok (.iconst 2, 1) := dk_5 (dk_at dksL_law_3 8 rfl rfl)
theorem dL_law_277 : decode cL_law 277 = .ok (.iadd, 1) := dk_96 (dk_at dksL_law_3 9 rfl rfl)
theorem dL_law_278 : decode cL_law 278 = .ok (.iaload, 1) := dk_46 (dk_at dksL_law_3 10 rfl rfl)
theorem dL_law_279 : decode cL_law 279 = .ok (.aload_n 0, 1) := dk_42 (dk_at dksL_law_3 11 rfl rfl)
theorem dL_law_280 : decode cL_law 280 = .ok (.iload_n 3, 1) := dk_29 (dk_at dksL_law_3 12 rfl rfl)
theorem dL_law_281 : decode cL_law 281 = .ok (.iconst 3, 1) := dk_6 (dk_at dksL_law_3 13 rfl rfl)
theorem dL_law_282 : decode cL_law 282 = .ok (.iadd, 1) := dk_96 (dk_at dksL_law_3 14 rfl rfl)
theorem dL_law_283 : decode cL_law 283 = .ok (.iaload, 1) := dk_46 (dk_at dksL_law_3 15 rfl rfl)
theorem dL_law_284 : decode cL_law 284 = .ok (.invokevirtual 13, 3) := dk_182 0 13 (dk_at dksL_law_3 16 rfl rfl)
theorem dL_law_287 : decode cL_law 287 = .ok (.aload_n 2, 1) := dk_44 (dk_at dksL_law_3 19 rfl rfl)
theorem dL_law_288 : decode cL_law 288 = .ok (.aload_n 0, 1) := dk_42 (dk_at dksL_law_3 20 rfl rfl)
theorem dL_law_289 : decode cL_law 289 = .ok (.iload_n 3, 1) := dk_29 (dk_at dksL_law_3 21 rfl rfl)
theorem dL_law_290 : decode cL_law 290 = .ok (.iconst 1, 1) := dk_4 (dk_at dksL_law_3 22 rfl rfl)
theorem dL_law_291 : decode cL_law 291 = .ok (.iadd, 1) := dk_96 (dk_at dksL_law_3 23 rfl rfl)
theorem dL_law_292 : decode cL_law 292 = .ok (.iaload, 1) := dk_46 (dk_at dksL_law_4 0 rfl rfl)
theorem dL_law_293 : decode cL_law 293 = .ok (.aload_n 0, 1) := dk_42 (dk_at dksL_law_4 1 rfl rfl)
theorem dL_law_294 : decode cL_law 294 = .ok (.iload_n 3, 1) := dk_29 (dk_at dksL_law_4 2 rfl rfl)
theorem dL_law_295 : decode cL_law 295 = .ok (.iconst 2, 1) := dk_5 (dk_at dksL_law_4 3 rfl rfl)
theorem dL_law_296 : decode cL_law 296 = .ok (.iadd, 1) := dk_96 (dk_at dksL_law_4 4 rfl rfl)
theorem dL_law_297 : decode cL_law 297 = .ok (.iaload, 1) := dk_46 (dk_at dksL_law_4 5 rfl rfl)
theorem dL_law_298 : decode cL_law 298 = .ok (.aload_n 0, 1) := dk_42 (dk_at dksL_law_4 6 rfl rfl)
theorem dL_law_299 : decode cL_law 299 = .ok (.iload_n 3, 1) := dk_29 (dk_at dksL_law_4 7 rfl rfl)
theorem dL_law_300 : decode cL_law 300 = .ok (.iconst 3, 1) := dk_6 (dk_at dksL_law_4 8 rfl rfl)
theorem dL_law_301 : decode cL_law 301 = .ok (.iadd, 1) := dk_96 (dk_at dksL_law_4 9 rfl rfl)
theorem dL_law_302 : decode cL_law 302 = .ok (.iaload, 1) := dk_46 (dk_at dksL_law_4 10 rfl rfl)
theorem dL_law_303 : decode cL_law 303 = .ok (.invokevirtual 17, 3) := dk_182 0 17 (dk_at dksL_law_4 11 rfl rfl)
theorem dL_law_306 : decode cL_law 306 = .ok (.if_icmp .eq 1537, 3) := dk_159 6 1 (dk_at dksL_law_4 14 rfl rfl)
theorem dL_law_309 : decode cL_law 309 = .ok (.iconst 0, 1) := dk_3 (dk_at dksL_law_4 17 rfl rfl)
theorem dL_law_310 : decode cL_law 310 = .ok (.ireturn, 1) := dk_172 (dk_at dksL_law_4 18 rfl rfl)
theorem dL_law_311 : decode cL_law 311 = .ok (.aload_n 1, 1) := dk_43 (dk_at dksL_law_4 19 rfl rfl)
theorem dL_law_312 : decode cL_law 312 = .ok (.aload_n 0, 1) := dk_42 (dk_at dksL_law_4 20 rfl rfl)
theorem dL_law_313 : decode cL_law 313 = .ok (.iload_n 3, 1) := dk_29 (dk_at dksL_law_4 21 rfl rfl)
theorem dL_law_314 : decode cL_law 314 = .ok (.iconst 1, 1) := dk_4 (dk_at dksL_law_4 22 rfl rfl)
theorem dL_law_315 : decode cL_law 315 = .ok (.iadd, 1) := dk_96 (dk_at dksL_law_4 23 rfl rfl)
theorem dL_law_316 : decode cL_law 316 = .ok (.iaload, 1) := dk_46 (dk_at dksL_law_5 0 rfl rfl)
theorem dL_law_317 : decode cL_law 317 = .ok (.aload_n 0, 1) := dk_42 (dk_at dksL_law_5 1 rfl rfl)
theorem dL_law_318 : decode cL_law 318 = .ok (.iload_n 3, 1) := dk_29 (dk_at dksL_law_5 2 rfl rfl)
theorem dL_law_319 : decode cL_law 319 = .ok (.iconst 2, 1) := dk_5 (dk_at dksL_law_5 3 rfl rfl)
theorem dL_law_320 : decode cL_law 320 = .ok (.iadd, 1) := dk_96 (dk_at dksL_law_5 4 rfl rfl)
theorem dL_law_321 : decode cL_law 321 = .ok (.iaload, 1) := dk_46 (dk_at dksL_law_5 5 rfl rfl)
theorem dL_law_322 : decode cL_law 322 = .ok (.invokevirtual 18, 3) := dk_182 0 18 (dk_at dksL_law_5 6 rfl rfl)
theorem dL_law_325 : decode cL_law 325 = .ok (.aload_n 2, 1) := dk_44 (dk_at dksL_law_5 9 rfl rfl)
theorem dL_law_326 : decode cL_law 326 = .ok (.aload_n 0, 1) := dk_42 (dk_at dksL_law_5 10 rfl rfl)
theorem dL_law_327 : decode cL_law 327 = .ok (.iload_n 3, 1) := dk_29 (dk_at dksL_law_5 11 rfl rfl)
theorem dL_law_328 : decode cL_law 328 = .ok (.iconst 1, 1) := dk_4 (dk_at dksL_law_5 12 rfl rfl)
theorem dL_law_329 : decode cL_law 329 = .ok (.iadd, 1) := dk_96 (dk_at dksL_law_5 13 rfl rfl)
theorem dL_law_330 : decode cL_law 330 = .ok (.iaload, 1) := dk_46 (dk_at dksL_law_5 14 rfl rfl)
theorem dL_law_331 : decode cL_law 331 = .ok (.aload_n 0, 1) := dk_42 (dk_at dksL_law_5 15 rfl rfl)
theorem dL_law_332 : decode cL_law 332 = .ok (.iload_n 3, 1) := dk_29 (dk_at dksL_law_5 16 rfl rfl)
theorem dL_law_333 : decode cL_law 333 = .ok (.iconst 2, 1) := dk_5 (dk_at dksL_law_5 17 rfl rfl)
theorem dL_law_334 : decode cL_law 334 = .ok (.iadd, 1) := dk_96 (dk_at dksL_law_5 18 rfl rfl)
theorem dL_law_335 : decode cL_law 335 = .ok (.iaload, 1) := dk_46 (dk_at dksL_law_5 19 rfl rfl)
theorem dL_law_336 : decode cL_law 336 = .ok (.invokevirtual 22, 3) := dk_182 0 22 (dk_at dksL_law_5 20 rfl rfl)
theorem dL_law_339 : decode cL_law 339 = .ok (.if_icmp .eq 1504, 3) := dk_159 5 224 (dk_at dksL_law_6 0 rfl rfl)
theorem dL_law_342 : decode cL_law 342 = .ok (.iconst 0, 1) := dk_3 (dk_at dksL_law_6 3 rfl rfl)
theorem dL_law_343 : decode cL_law 343 = .ok (.ireturn, 1) := dk_172 (dk_at dksL_law_6 4 rfl rfl)
theorem dL_law_344 : decode cL_law 344 = .ok (.aload_n 1, 1) := dk_43 (dk_at dksL_law_6 5 rfl rfl)
theorem dL_law_345 : decode cL_law 345 = .ok (.aload_n 0, 1) := dk_42 (dk_at dksL_law_6 6 rfl rfl)
theorem dL_law_346 : decode cL_law 346 = .ok (.iload_n 3, 1) := dk_29 (dk_at dksL_law_6 7 rfl rfl)
theorem dL_law_347 : decode cL_law 347 = .ok (.iconst 1, 1) := dk_4 (dk_at dksL_law_6 8 rfl rfl)
theorem dL_law_348 : decode cL_law 348 = .ok (.iadd, 1) := dk_96 (dk_at dksL_law_6 9 rfl rfl)
theorem dL_law_349 : decode cL_law 349 = .ok (.iaload, 1) := dk_46 (dk_at dksL_law_6 10 rfl rfl)
theorem dL_law_350 : decode cL_law 350 = .ok (.aload_n 0, 1) := dk_42 (dk_at dksL_law_6 11 rfl rfl)
theorem dL_law_351 : decode cL_law 351 = .ok (.iload_n 3, 1) := dk_29 (dk_at dksL_law_6 12 rfl rfl)
theorem dL_law_352 : decode cL_law 352 = .ok (.iconst 2, 1) := dk_5 (dk_at dksL_law_6 13 rfl rfl)
theorem dL_law_353 : decode cL_law 353 = .ok (.iadd, 1) := dk_96 (dk_at dksL_law_6 14 rfl rfl)
theorem dL_law_354 : decode cL_law 354 = .ok (.iaload, 1) := dk_46 (dk_at dksL_law_6 15 rfl rfl)
theorem dL_law_355 : decode cL_law 355 = .ok (.aload_n 0, 1) := dk_42 (dk_at dksL_law_6 16 rfl rfl)
theorem dL_law_356 : decode cL_law 356 = .ok (.iload_n 3, 1) := dk_29 (dk_at dksL_law_6 17 rfl rfl)
theorem dL_law_357 : decode cL_law 357 = .ok (.iconst 3, 1) := dk_6 (dk_at dksL_law_6 18 rfl rfl)
theorem dL_law_358 : decode cL_law 358 = .ok (.iadd, 1) := dk_96 (dk_at dksL_law_6 19 rfl rfl)
theorem dL_law_359 : decode cL_law 359 = .ok (.iaload, 1) := dk_46 (dk_at dksL_law_6 20 rfl rfl)
theorem dL_law_360 : decode cL_law 360 = .ok (.invokevirtual 23, 3) := dk_182 0 23 (dk_at dksL_law_6 21 rfl rfl)
theorem dL_law_363 : decode cL_law 363 = .ok (.aload_n 2, 1) := dk_44 (dk_at dksL_law_7 0 rfl rfl)
theorem dL_law_364 : decode cL_law 364 = .ok (.aload_n 0, 1) := dk_42 (dk_at dksL_law_7 1 rfl rfl)
theorem dL_law_365 : decode cL_law 365 = .ok (.iload_n 3, 1) := dk_29 (dk_at dksL_law_7 2 rfl rfl)
theorem dL_law_366 : decode cL_law 366 = .ok (.iconst 1, 1) := dk_4 (dk_at dksL_law_7 3 rfl rfl)
theorem dL_law_367 : decode cL_law 367 = .ok (.iadd, 1) := dk_96 (dk_at dksL_law_7 4 rfl rfl)
theorem dL_law_368 : decode cL_law 368 = .ok (.iaload, 1) := dk_46 (dk_at dksL_law_7 5 rfl rfl)
theorem dL_law_369 : decode cL_law 369 = .ok (.aload_n 0, 1) := dk_42 (dk_at dksL_law_7 6 rfl rfl)
theorem dL_law_370 : decode cL_law 370 = .ok (.iload_n 3, 1) := dk_29 (dk_at dksL_law_7 7 rfl rfl)
theorem dL_law_371 : decode cL_law 371 = .ok (.iconst 2, 1) := dk_5 (dk_at dksL_law_7 8 rfl rfl)
theorem dL_law_372 : decode cL_law 372 = .ok (.iadd, 1) := dk_96 (dk_at dksL_law_7 9 rfl rfl)
theorem dL_law_373 : decode cL_law 373 = .ok (.iaload, 1) := dk_46 (dk_at dksL_law_7 10 rfl rfl)
theorem dL_law_374 : decode cL_law 374 = .ok (.aload_n 0, 1) := dk_42 (dk_at dksL_law_7 11 rfl rfl)
theorem dL_law_375 : decode cL_law 375 = .ok (.iload_n 3, 1) := dk_29 (dk_at dksL_law_7 12 rfl rfl)
theorem dL_law_376 : decode cL_law 376 = .ok (.iconst 3, 1) := dk_6 (dk_at dksL_law_7 13 rfl rfl)
theorem dL_law_377 : decode cL_law 377 = .ok (.iadd, 1) := dk_96 (dk_at dksL_law_7 14 rfl rfl)
theorem dL_law_378 : decode cL_law 378 = .ok (.iaload, 1) := dk_46 (dk_at dksL_law_7 15 rfl rfl)
theorem dL_law_379 : decode cL_law 379 = .ok (.invokevirtual 26, 3) := dk_182 0 26 (dk_at dksL_law_7 16 rfl rfl)
theorem dL_law_382 : decode cL_law 382 = .ok (.if_icmp .eq 1461, 3) := dk_159 5 181 (dk_at dksL_law_7 19 rfl rfl)
theorem dL_law_385 : decode cL_law 385 = .ok (.iconst 0, 1) := dk_3 (dk_at dksL_law_7 22 rfl rfl)
theorem dL_law_386 : decode cL_law 386 = .ok (.ireturn, 1) := dk_172 (dk_at dksL_law_7 23 rfl rfl)
theorem dL_law_387 : decode cL_law 387 = .ok (.aload_n 1, 1) := dk_43 (dk_at dksL_law_8 0 rfl rfl)
theorem dL_law_388 : decode cL_law 388 = .ok (.aload_n 0, 1) := dk_42 (dk_at dksL_law_8 1 rfl rfl)
theorem dL_law_389 : decode cL_law 389 = .ok (.iload_n 3, 1) := dk_29 (dk_at dksL_law_8 2 rfl rfl)
theorem dL_law_390 : decode cL_law 390 = .ok (.iconst 1, 1) := dk_4 (dk_at dksL_law_8 3 rfl rfl)
theorem dL_law_391 : decode cL_law 391 = .ok (.iadd, 1) := dk_96 (dk_at dksL_law_8 4 rfl rfl)
theorem dL_law_392 : decode cL_law 392 = .ok (.iaload, 1) := dk_46 (dk_at dksL_law_8 5 rfl rfl)
theorem dL_law_393 : decode cL_law 393 = .ok (.aload_n 0, 1) := dk_42 (dk_at dksL_law_8 6 rfl rfl)
theorem dL_law_394 : decode cL_law 394 = .ok (.iload_n 3, 1) := dk_29 (dk_at dksL_law_8 7 rfl rfl)
theorem dL_law_395 : decode cL_law 395 = .ok (.iconst 2, 1) := dk_5 (dk_at dksL_law_8 8 rfl rfl)
theorem dL_law_396 : decode cL_law 396 = .ok (.iadd, 1) := dk_96 (dk_at dksL_law_8 9 rfl rfl)
theorem dL_law_397 : decode cL_law 397 = .ok (.iaload, 1) := dk_46 (dk_at dksL_law_8 10 rfl rfl)
theorem dL_law_398 : decode cL_law 398 = .ok (.invokevirtual 27, 3) := dk_182 0 27 (dk_at dksL_law_8 11 rfl rfl)
theorem dL_law_401 : decode cL_law 401 = .ok (.aload_n 2, 1) := dk_44 (dk_at dksL_law_8 14 rfl rfl)
theorem dL_law_402 : decode cL_law 402 = .ok (.aload_n 0, 1) := dk_42 (dk_at dksL_law_8 15 rfl rfl)
theorem dL_law_403 : decode cL_law 403 = .ok (.iload_n 3, 1) := dk_29 (dk_at dksL_law_8 16 rfl rfl)
theorem dL_law_404 : decode cL_law 404 = .ok (.iconst 1, 1) := dk_4 (dk_at dksL_law_8 17 rfl rfl)
theorem dL_law_405 : decode cL_law 405 = .ok (.iadd, 1) := dk_96 (dk_at dksL_law_8 18 rfl rfl)
theorem dL_law_406 : decode cL_law 406 = .ok (.iaload, 1) := dk_46 (dk_at dksL_law_8 19 rfl rfl)
theorem dL_law_407 : decode cL_law 407 = .ok (.aload_n 0, 1) := dk_42 (dk_at dksL_law_8 20 rfl rfl)
theorem dL_law_408 : decode cL_law 408 = .ok (.iload_n 3, 1) := dk_29 (dk_at dksL_law_8 21 rfl rfl)
theorem dL_law_409 : decode cL_law 409 = .ok (.iconst 2, 1) := dk_5 (dk_at dksL_law_8 22 rfl rfl)
theorem dL_law_410 : decode cL_law 410 = .ok (.iadd, 1) := dk_96 (dk_at dksL_law_8 23 rfl rfl)
theorem dL_law_411 : decode cL_law 411 = .ok (.iaload, 1) := dk_46 (dk_at dksL_law_9 0 rfl rfl)
theorem dL_law_412 : decode cL_law 412 = .ok (.invokevirtual 30, 3) := dk_182 0 30 (dk_at dksL_law_9 1 rfl rfl)
theorem dL_law_415 : decode cL_law 415 = .ok (.if_icmp .eq 1428, 3) := dk_159 5 148 (dk_at dksL_law_9 4 rfl rfl)
theorem dL_law_418 : decode cL_law 418 = .ok (.iconst 0, 1) := dk_3 (dk_at dksL_law_9 7 rfl rfl)
theorem dL_law_419 : decode cL_law 419 = .ok (.ireturn, 1) := dk_172 (dk_at dksL_law_9 8 rfl rfl)
theorem dL_law_420 : decode cL_law 420 = .ok (.aload_n 1, 1) := dk_43 (dk_at dksL_law_9 9 rfl rfl)
theorem dL_law_421 : decode cL_law 421 = .ok (.aload_n 0, 1) := dk_42 (dk_at dksL_law_9 10 rfl rfl)
theorem dL_law_422 : decode cL_law 422 = .ok (.iload_n 3, 1) := dk_29 (dk_at dksL_law_9 11 rfl rfl)
theorem dL_law_423 : decode cL_law 423 = .ok (.iconst 1, 1) := dk_4 (dk_at dksL_law_9 12 rfl rfl)
theorem dL_law_424 : decode cL_law 424 = .ok (.iadd, 1) := dk_96 (dk_at dksL_law_9 13 rfl rfl)
theorem dL_law_425 : decode cL_law 425 = .ok (.iaload, 1) := dk_46 (dk_at dksL_law_9 14 rfl rfl)
theorem dL_law_426 : decode cL_law 426 = .ok (.aload_n 0, 1) := dk_42 (dk_at dksL_law_9 15 rfl rfl)
theorem dL_law_427 : decode cL_law 427 = .ok (.iload_n 3, 1) := dk_29 (dk_at dksL_law_9 16 rfl rfl)
theorem dL_law_428 : decode cL_law 428 = .ok (.iconst 2, 1) := dk_5 (dk_at dksL_law_9 17 rfl rfl)
theorem dL_law_429 : decode cL_law 429 = .ok (.iadd, 1) := dk_96 (dk_at dksL_law_9 18 rfl rfl)
theorem dL_law_430 : decode cL_law 430 = .ok (.iaload, 1) := dk_46 (dk_at dksL_law_9 19 rfl rfl)
theorem dL_law_431 : decode cL_law 431 = .ok (.aload_n 0, 1) := dk_42 (dk_at dksL_law_9 20 rfl rfl)
theorem dL_law_432 : decode cL_law 432 = .ok (.iload_n 3, 1) := dk_29 (dk_at dksL_law_9 21 rfl rfl)
theorem dL_law_433 : decode cL_law 433 = .ok (.iconst 3, 1) := dk_6 (dk_at dksL_law_9 22 rfl rfl)
theorem dL_law_434 : decode cL_law 434 = .ok (.iadd, 1) := dk_96 (dk_at dksL_law_9 23 rfl rfl)
theorem dL_law_435 : decode cL_law 435 = .ok (.iaload, 1) := dk_46 (dk_at dksL_law_10 0 rfl rfl)
theorem dL_law_436 : decode cL_law 436 = .ok (.aload_n 0, 1) := dk_42 (dk_at dksL_law_10 1 rfl rfl)
theorem dL_law_437 : decode cL_law 437 = .ok (.iload_n 3, 1) := dk_29 (dk_at dksL_law_10 2 rfl rfl)
theorem dL_law_438 : decode cL_law 438 = .ok (.iconst 4, 1) := dk_7 (dk_at dksL_law_10 3 rfl rfl)
theorem dL_law_439 : decode cL_law 439 = .ok (.iadd, 1) := dk_96 (dk_at dksL_law_10 4 rfl rfl)
theorem dL_law_440 : decode cL_law 440 = .ok (.iaload, 1) := dk_46 (dk_at dksL_law_10 5 rfl rfl)
theorem dL_law_441 : decode cL_law 441 = .ok (.invokevirtual 31, 3) := dk_182 0 31 (dk_at dksL_law_10 6 rfl rfl)
theorem dL_law_444 : decode cL_law 444 = .ok (.aload_n 2, 1) := dk_44 (dk_at dksL_law_10 9 rfl rfl)
theorem dL_law_445 : decode cL_law 445 = .ok (.aload_n 0, 1) := dk_42 (dk_at dksL_law_10 10 rfl rfl)
theorem dL_law_446 : decode cL_law 446 = .ok (.iload_n 3, 1) := dk_29 (dk_at dksL_law_10 11 rfl rfl)
theorem dL_law_447 : decode cL_law 447 = .ok (.iconst 1, 1) := dk_4 (dk_at dksL_law_10 12 rfl rfl)
theorem dL_law_448 : decode cL_law 448 = .ok (.iadd, 1) := dk_96 (dk_at dksL_law_10 13 rfl rfl)
theorem dL_law_449 : decode cL_law 449 = .ok (.iaload, 1) := dk_46 (dk_at dksL_law_10 14 rfl rfl)
theorem dL_law_450 : decode cL_law 450 = .ok (.aload_n 0, 1) := dk_42 (dk_at dksL_law_10 15 rfl rfl)
theorem dL_law_451 : decode cL_law 451 = .ok (.iload_n 3, 1) := dk_29 (dk_at dksL_law_10 16 rfl rfl)
theorem dL_law_452 : decode cL_law 452 = .ok (.iconst 2, 1) := dk_5 (dk_at dksL_law_10 17 rfl rfl)
theorem dL_law_453 : decode cL_law 453 = .ok (.iadd, 1) := dk_96 (dk_at dksL_law_10 18 rfl rfl)
theorem dL_law_454 : decode cL_law 454 = .ok (.iaload, 1) := dk_46 (dk_at dksL_law_10 19 rfl rfl)
theorem dL_law_455 : decode cL_law 455 = .ok (.aload_n 0, 1) := dk_42 (dk_at dksL_law_10 20 rfl rfl)
theorem dL_law_456 : decode cL_law 456 = .ok (.iload_n 3, 1) := dk_29 (dk_at dksL_law_10 21 rfl rfl)
theorem dL_law_457 : decode cL_law 457 = .ok (.iconst 3, 1) := dk_6 (dk_at dksL_law_10 22 rfl rfl)
theorem dL_law_458 : decode cL_law 458 = .ok (.iadd, 1) := dk_96 (dk_at dksL_law_10 23 rfl rfl)
theorem dL_law_459 : decode cL_law 459 = .ok (.iaload, 1) := dk_46 (dk_at dksL_law_11 0 rfl rfl)
theorem dL_law_460 : decode cL_law 460 = .ok (.aload_n 0, 1) := dk_42 (dk_at dksL_law_11 1 rfl rfl)
theorem dL_law_461 : decode cL_law 461 = .ok (.iload_n 3, 1) := dk_29 (dk_at dksL_law_11 2 rfl rfl)
theorem dL_law_462 : decode cL_law 462 = .ok (.iconst 4, 1) := dk_7 (dk_at dksL_law_11 3 rfl rfl)
theorem dL_law_463 : decode cL_law 463 = .ok (.iadd, 1) := dk_96 (dk_at dksL_law_11 4 rfl rfl)
theorem dL_law_464 : decode cL_law 464 = .ok (.iaload, 1) := dk_46 (dk_at dksL_law_11 5 rfl rfl)
theorem dL_law_465 : decode cL_law 465 = .ok (.invokevirtual 35, 3) := dk_182 0 35 (dk_at dksL_law_11 6 rfl rfl)
theorem dL_law_468 : decode cL_law 468 = .ok (.if_icmp .eq 1375, 3) := dk_159 5 95 (dk_at dksL_law_11 9 rfl rfl)
theorem dL_law_471 : decode cL_law 471 = .ok (.iconst 0, 1) := dk_3 (dk_at dksL_law_11 12 rfl rfl)
theorem dL_law_472 : decode cL_law 472 = .ok (.ireturn, 1) := dk_172 (dk_at dksL_law_11 13 rfl rfl)
theorem dL_law_473 : decode cL_law 473 = .ok (.aload_n 1, 1) := dk_43 (dk_at dksL_law_11 14 rfl rfl)
theorem dL_law_474 : decode cL_law 474 = .ok (.aload_n 0, 1) := dk_42 (dk_at dksL_law_11 15 rfl rfl)
theorem dL_law_475 : decode cL_law 475 = .ok (.iload_n 3, 1) := dk_29 (dk_at dksL_law_11 16 rfl rfl)
theorem dL_law_476 : decode cL_law 476 = .ok (.iconst 1, 1) := dk_4 (dk_at dksL_law_11 17 rfl rfl)
theorem dL_law_477 : decode cL_law 477 = .ok (.iadd, 1) := dk_96 (dk_at dksL_law_11 18 rfl rfl)
theorem dL_law_478 : decode cL_law 478 = .ok (.iaload, 1) := dk_46 (dk_at dksL_law_11 19 rfl rfl)
theorem dL_law_479 : decode cL_law 479 = .ok (.aload_n 0, 1) := dk_42 (dk_at dksL_law_11 20 rfl rfl)
theorem dL_law_480 : decode cL_law 480 = .ok (.iload_n 3, 1) := dk_29 (dk_at dksL_law_11 21 rfl rfl)
theorem dL_law_481 : decode cL_law 481 = .ok (.iconst 2, 1) := dk_5 (dk_at dksL_law_11 22 rfl rfl)
theorem dL_law_482 : decode cL_law 482 = .ok (.iadd, 1) := dk_96 (dk_at dksL_law_11 23 rfl rfl)
theorem dL_law_483 : decode cL_law 483 = .ok (.iaload, 1) := dk_46 (dk_at dksL_law_12 0 rfl rfl)
theorem dL_law_484 : decode cL_law 484 = .ok (.invokevirtual 36, 3) := dk_182 0 36 (dk_at dksL_law_12 1 rfl rfl)
theorem dL_law_487 : decode cL_law 487 = .ok (.aload_n 2, 1) := dk_44 (dk_at dksL_law_12 4 rfl rfl)
theorem dL_law_488 : decode cL_law 488 = .ok (.aload_n 0, 1) := dk_42 (dk_at dksL_law_12 5 rfl rfl)
theorem dL_law_489 : decode cL_law 489 = .ok (.iload_n 3, 1) := dk_29 (dk_at dksL_law_12 6 rfl rfl)
theorem dL_law_490 : decode cL_law 490 = .ok (.iconst 1, 1) := dk_4 (dk_at dksL_law_12 7 rfl rfl)
theorem dL_law_491 : decode cL_law 491 = .ok (.iadd, 1) := dk_96 (dk_at dksL_law_12 8 rfl rfl)
theorem dL_law_492 : decode cL_law 492 = .ok (.iaload, 1) := dk_46 (dk_at dksL_law_12 9 rfl rfl)
theorem dL_law_493 : decode cL_law 493 = .ok (.aload_n 0, 1) := dk_42 (dk_at dksL_law_12 10 rfl rfl)
theorem dL_law_494 : decode cL_law 494 = .ok (.iload_n 3, 1) := dk_29 (dk_at dksL_law_12 11 rfl rfl)
theorem dL_law_495 : decode cL_law 495 = .ok (.iconst 2, 1) := dk_5 (dk_at dksL_law_12 12 rfl rfl)
theorem dL_law_496 : decode cL_law 496 = .ok (.iadd, 1) := dk_96 (dk_at dksL_law_12 13 rfl rfl)
theorem dL_law_497 : decode cL_law 497 = .ok (.iaload, 1) := dk_46 (dk_at dksL_law_12 14 rfl rfl)
theorem dL_law_498 : decode cL_law 498 = .ok (.invokevirtual 39, 3) := dk_182 0 39 (dk_at dksL_law_12 15 rfl rfl)
theorem dL_law_501 : decode cL_law 501 = .ok (.if_icmp .eq 1342, 3) := dk_159 5 62 (dk_at dksL_law_12 18 rfl rfl)
theorem dL_law_504 : decode cL_law 504 = .ok (.iconst 0, 1) := dk_3 (dk_at dksL_law_12 21 rfl rfl)
theorem dL_law_505 : decode cL_law 505 = .ok (.ireturn, 1) := dk_172 (dk_at dksL_law_12 22 rfl rfl)
theorem dL_law_506 : decode cL_law 506 = .ok (.aload_n 1, 1) := dk_43 (dk_at dksL_law_12 23 rfl rfl)
theorem dL_law_507 : decode cL_law 507 = .ok (.aload_n 0, 1) := dk_42 (dk_at dksL_law_13 0 rfl rfl)
theorem dL_law_508 : decode cL_law 508 = .ok (.iload_n 3, 1) := dk_29 (dk_at dksL_law_13 1 rfl rfl)
theorem dL_law_509 : decode cL_law 509 = .ok (.iconst 1, 1) := dk_4 (dk_at dksL_law_13 2 rfl rfl)
theorem dL_law_510 : decode cL_law 510 = .ok (.iadd, 1) := dk_96 (dk_at dksL_law_13 3 rfl rfl)
theorem dL_law_511 : decode cL_law 511 = .ok (.iaload, 1) := dk_46 (dk_at dksL_law_13 4 rfl rfl)
theorem dL_law_512 : decode cL_law 512 = .ok (.invokevirtual 40, 3) := dk_182 0 40 (dk_at dksL_law_13 5 rfl rfl)
theorem dL_law_515 : decode cL_law 515 = .ok (.aload_n 2, 1) := dk_44 (dk_at dksL_law_13 8 rfl rfl)
theorem dL_law_516 : decode cL_law 516 = .ok (.aload_n 0, 1) := dk_42 (dk_at dksL_law_13 9 rfl rfl)
theorem dL_law_517 : decode cL_law 517 = .ok (.iload_n 3, 1) := dk_29 (dk_at dksL_law_13 10 rfl rfl)
theorem dL_law_518 : decode cL_law 518 = .ok (.iconst 1, 1) := dk_4 (dk_at dksL_law_13 11 rfl rfl)
theorem dL_law_519 : decode cL_law 519 = .ok (.iadd, 1) := dk_96 (dk_at dksL_law_13 12 rfl rfl)
theorem dL_law_520 : decode cL_law 520 = .ok (.iaload, 1) := dk_46 (dk_at dksL_law_13 13 rfl rfl)
theorem dL_law_521 : decode cL_law 521 = .ok (.invokevirtual 44, 3) := dk_182 0 44 (dk_at dksL_law_13 14 rfl rfl)
theorem dL_law_524 : decode cL_law 524 = .ok (.if_icmp .eq 1319, 3) := dk_159 5 39 (dk_at dksL_law_13 17 rfl rfl)
theorem dL_law_527 : decode cL_law 527 = .ok (.iconst 0, 1) := dk_3 (dk_at dksL_law_13 20 rfl rfl)
theorem dL_law_528 : decode cL_law 528 = .ok (.ireturn, 1) := dk_172 (dk_at dksL_law_13 21 rfl rfl)
theorem dL_law_529 : decode cL_law 529 = .ok (.aload_n 1, 1) := dk_43 (dk_at dksL_law_13 22 rfl rfl)
theorem dL_law_530 : decode cL_law 530 = .ok (.invokevirtual 45, 3) := dk_182 0 45 (dk_at dksL_law_14 0 rfl rfl)
theorem dL_law_533 : decode cL_law 533 = .ok (.aload_n 2, 1) := dk_44 (dk_at dksL_law_14 3 rfl rfl)
theorem dL_law_534 : decode cL_law 534 = .ok (.invokevirtual 49, 3) := dk_182 0 49 (dk_at dksL_law_14 4 rfl rfl)
theorem dL_law_537 : decode cL_law 537 = .ok (.if_icmp .eq 1306, 3) := dk_159 5 26 (dk_at dksL_law_14 7 rfl rfl)
theorem dL_law_540 : decode cL_law 540 = .ok (.iconst 0, 1) := dk_3 (dk_at dksL_law_14 10 rfl rfl)
theorem dL_law_541 : decode cL_law 541 = .ok (.ireturn, 1) := dk_172 (dk_at dksL_law_14 11 rfl rfl)
theorem dL_law_542 : decode cL_law 542 = .ok (.aload_n 1, 1) := dk_43 (dk_at dksL_law_14 12 rfl rfl)
theorem dL_law_543 : decode cL_law 543 = .ok (.aload_n 0, 1) := dk_42 (dk_at dksL_law_14 13 rfl rfl)
theorem dL_law_544 : decode cL_law 544 = .ok (.iload_n 3, 1) := dk_29 (dk_at dksL_law_14 14 rfl rfl)
theorem dL_law_545 : decode cL_law 545 = .ok (.iconst 1, 1) := dk_4 (dk_at dksL_law_14 15 rfl rfl)
theorem dL_law_546 : decode cL_law 546 = .ok (.iadd, 1) := dk_96 (dk_at dksL_law_14 16 rfl rfl)
theorem dL_law_547 : decode cL_law 547 = .ok (.iaload, 1) := dk_46 (dk_at dksL_law_14 17 rfl rfl)
theorem dL_law_548 : decode cL_law 548 = .ok (.invokevirtual 50, 3) := dk_182 0 50 (dk_at dksL_law_14 18 rfl rfl)
theorem dL_law_551 : decode cL_law 551 = .ok (.aload_n 2, 1) := dk_44 (dk_at dksL_law_14 21 rfl rfl)
theorem dL_law_552 : decode cL_law 552 = .ok (.aload_n 0, 1) := dk_42 (dk_at dksL_law_14 22 rfl rfl)
theorem dL_law_553 : decode cL_law 553 = .ok (.iload_n 3, 1) := dk_29 (dk_at dksL_law_14 23 rfl rfl)
theorem dL_law_554 : decode cL_law 554 = .ok (.iconst 1, 1) := dk_4 (dk_at dksL_law_15 0 rfl rfl)
theorem dL_law_555 : decode cL_law 555 = .ok (.iadd, 1) := dk_96 (dk_at dksL_law_15 1 rfl rfl)
theorem dL_law_556 : decode cL_law 556 = .ok (.iaload, 1) := dk_46 (dk_at dksL_law_15 2 rfl rfl)
theorem dL_law_557 : decode cL_law 557 = .ok (.invokevirtual 53, 3) := dk_182 0 53 (dk_at dksL_law_15 3 rfl rfl)
theorem dL_law_560 : decode cL_law 560 = .ok (.if_icmp .eq 1283, 3) := dk_159 5 3 (dk_at dksL_law_15 6 rfl rfl)
theorem dL_law_563 : decode cL_law 563 = .ok (.iconst 0, 1) := dk_3 (dk_at dksL_law_15 9 rfl rfl)
theorem dL_law_564 : decode cL_law 564 = .ok (.ireturn, 1) := dk_172 (dk_at dksL_law_15 10 rfl rfl)
theorem dL_law_565 : decode cL_law 565 = .ok (.aload_n 1, 1) := dk_43 (dk_at dksL_law_15 11 rfl rfl)
theorem dL_law_566 : decode cL_law 566 = .ok (.aload_n 0, 1) := dk_42 (dk_at dksL_law_15 12 rfl rfl)
theorem dL_law_567 : decode cL_law 567 = .ok (.iload_n 3, 1) := dk_29 (dk_at dksL_law_15 13 rfl rfl)
theorem dL_law_568 : decode cL_law 568 = .ok (.iconst 1, 1) := dk_4 (dk_at dksL_law_15 14 rfl rfl)
theorem dL_law_569 : decode cL_law 569 = .ok (.iadd, 1) := dk_96 (dk_at dksL_law_15 15 rfl rfl)
theorem dL_law_570 : decode cL_law 570 = .ok (.iaload, 1) := dk_46 (dk_at dksL_law_15 16 rfl rfl)
theorem dL_law_571 : decode cL_law 571 = .ok (.i2l, 1) := dk_133 (dk_at dksL_law_15 17 rfl rfl)
theorem dL_law_572 : decode cL_law 572 = .ok (.bipush 32, 2) := dk_16 32 (dk_at dksL_law_15 18 rfl rfl)
theorem dL_law_574 : decode cL_law 574 = .ok (.lshl, 1) := dk_121 (dk_at dksL_law_15 20 rfl rfl)
theorem dL_law_575 : decode cL_law 575 = .ok (.aload_n 0, 1) := dk_42 (dk_at dksL_law_15 21 rfl rfl)
theorem dL_law_576 : decode cL_law 576 = .ok (.iload_n 3, 1) := dk_29 (dk_at dksL_law_15 22 rfl rfl)
theorem dL_law_577 : decode cL_law 577 = .ok (.iconst 2, 1) := dk_5 (dk_at dksL_law_15 23 rfl rfl)
theorem dL_law_578 : decode cL_law 578 = .ok (.iadd, 1) := dk_96 (dk_at dksL_law_16 0 rfl rfl)
theorem dL_law_579 : decode cL_law 579 = .ok (.iaload, 1) := dk_46 (dk_at dksL_law_16 1 rfl rfl)
theorem dL_law_580 : decode cL_law 580 = .ok (.i2l, 1) := dk_133 (dk_at dksL_law_16 2 rfl rfl)
theorem dL_law_581 : decode cL_law 581 = .ok (.ldc2_w 54, 3) := dk_20 0 54 (dk_at dksL_law_16 3 rfl rfl)
theorem dL_law_584 : decode cL_law 584 = .ok (.land, 1) := dk_127 (dk_at dksL_law_16 6 rfl rfl)
theorem dL_law_585 : decode cL_law 585 = .ok (.lor, 1) := dk_129 (dk_at dksL_law_16 7 rfl rfl)
theorem dL_law_586 : decode cL_law 586 = .ok (.aload_n 0, 1) := dk_42 (dk_at dksL_law_16 8 rfl rfl)
theorem dL_law_587 : decode cL_law 587 = .ok (.iload_n 3, 1) := dk_29 (dk_at dksL_law_16 9 rfl rfl)
theorem dL_law_588 : decode cL_law 588 = .ok (.iconst 3, 1) := dk_6 (dk_at dksL_law_16 10 rfl rfl)
theorem dL_law_589 : decode cL_law 589 = .ok (.iadd, 1) := dk_96 (dk_at dksL_law_16 11 rfl rfl)
theorem dL_law_590 : decode cL_law 590 = .ok (.iaload, 1) := dk_46 (dk_at dksL_law_16 12 rfl rfl)
theorem dL_law_591 : decode cL_law 591 = .ok (.invokevirtual 56, 3) := dk_182 0 56 (dk_at dksL_law_16 13 rfl rfl)
theorem dL_law_594 : decode cL_law 594 = .ok (.aload_n 2, 1) := dk_44 (dk_at dksL_law_16 16 rfl rfl)
theorem dL_law_595 : decode cL_law 595 = .ok (.aload_n 0, 1) := dk_42 (dk_at dksL_law_16 17 rfl rfl)
theorem dL_law_596 : decode cL_law 596 = .ok (.iload_n 3, 1) := dk_29 (dk_at dksL_law_16 18 rfl rfl)
theorem dL_law_597 : decode cL_law 597 = .ok (.iconst 1, 1) := dk_4 (dk_at dksL_law_16 19 rfl rfl)
theorem dL_law_598 : decode cL_law 598 = .ok (.iadd, 1) := dk_96 (dk_at dksL_law_16 20 rfl rfl)
theorem dL_law_599 : decode cL_law 599 = .ok (.iaload, 1) := dk_46 (dk_at dksL_law_16 21 rfl rfl)
theorem dL_law_600 : decode cL_law 600 = .ok (.i2l, 1) := dk_133 (dk_at dksL_law_16 22 rfl rfl)
theorem dL_law_601 : decode cL_law 601 = .ok (.bipush 32, 2) := dk_16 32 (dk_at dksL_law_17 0 rfl rfl)
theorem dL_law_603 : decode cL_law 603 = .ok (.lshl, 1) := dk_121 (dk_at dksL_law_17 2 rfl rfl)
theorem dL_law_604 : decode cL_law 604 = .ok (.aload_n 0, 1) := dk_42 (dk_at dksL_law_17 3 rfl rfl)
theorem dL_law_605 : decode cL_law 605 = .ok (.iload_n 3, 1) := dk_29 (dk_at dksL_law_17 4 rfl rfl)
theorem dL_law_606 : decode cL_law 606 = .ok (.iconst 2, 1) := dk_5 (dk_at dksL_law_17 5 rfl rfl)
theorem dL_law_607 : decode cL_law 607 = .ok (.iadd, 1) := dk_96 (dk_at dksL_law_17 6 rfl rfl)
theorem dL_law_608 : decode cL_law 608 = .ok (.iaload, 1) := dk_46 (dk_at dksL_law_17 7 rfl rfl)
theorem dL_law_609 : decode cL_law 609 = .ok (.i2l, 1) := dk_133 (dk_at dksL_law_17 8 rfl rfl)
theorem dL_law_610 : decode cL_law 610 = .ok (.ldc2_w 54, 3) := dk_20 0 54 (dk_at dksL_law_17 9 rfl rfl)
theorem dL_law_613 : decode cL_law 613 = .ok (.land, 1) := dk_127 (dk_at dksL_law_17 12 rfl rfl)
theorem dL_law_614 : decode cL_law 614 = .ok (.lor, 1) := dk_129 (dk_at dksL_law_17 13 rfl rfl)
theorem dL_law_615 : decode cL_law 615 = .ok (.aload_n 0, 1) := dk_42 (dk_at dksL_law_17 14 rfl rfl)
theorem dL_law_616 : decode cL_law 616 = .ok (.iload_n 3, 1) := dk_29 (dk_at dksL_law_17 15 rfl rfl)
theorem dL_law_617 : decode cL_law 617 = .ok (.iconst 3, 1) := dk_6 (dk_at dksL_law_17 16 rfl rfl)
theorem dL_law_618 : decode cL_law 618 = .ok (.iadd, 1) := dk_96 (dk_at dksL_law_17 17 rfl rfl)
theorem dL_law_619 : decode cL_law 619 = .ok (.iaload, 1) := dk_46 (dk_at dksL_law_17 18 rfl rfl)
theorem dL_law_620 : decode cL_law 620 = .ok (.invokevirtual 60, 3) := dk_182 0 60 (dk_at dksL_law_17 19 rfl rfl)
theorem dL_law_623 : decode cL_law 623 = .ok (.if_icmp .eq 1220, 3) := dk_159 4 196 (dk_at dksL_law_18 0 rfl rfl)
theorem dL_law_626 : decode cL_law 626 = .ok (.iconst 0, 1) := dk_3 (dk_at dksL_law_18 3 rfl rfl)
theorem dL_law_627 : decode cL_law 627 = .ok (.ireturn, 1) := dk_172 (dk_at dksL_law_18 4 rfl rfl)
theorem dL_law_628 : decode cL_law 628 = .ok (.aload_n 1, 1) := dk_43 (dk_at dksL_law_18 5 rfl rfl)
theorem dL_law_629 : decode cL_law 629 = .ok (.invokevirtual 61, 3) := dk_182 0 61 (dk_at dksL_law_18 6 rfl rfl)
theorem dL_law_632 : decode cL_law 632 = .ok (.aload_n 2, 1) := dk_44 (dk_at dksL_law_18 9 rfl rfl)
theorem dL_law_633 : decode cL_law 633 = .ok (.invokevirtual 64, 3) := dk_182 0 64 (dk_at dksL_law_18 10 rfl rfl)
theorem dL_law_636 : decode cL_law 636 = .ok (.if_icmp .eq 1207, 3) := dk_159 4 183 (dk_at dksL_law_18 13 rfl rfl)
theorem dL_law_639 : decode cL_law 639 = .ok (.iconst 0, 1) := dk_3 (dk_at dksL_law_18 16 rfl rfl)
theorem dL_law_640 : decode cL_law 640 = .ok (.ireturn, 1) := dk_172 (dk_at dksL_law_18 17 rfl rfl)
theorem dL_law_641 : decode cL_law 641 = .ok (.aload_n 1, 1) := dk_43 (dk_at dksL_law_18 18 rfl rfl)
theorem dL_law_642 : decode cL_law 642 = .ok (.invokevirtual 65, 3) := dk_182 0 65 (dk_at dksL_law_18 19 rfl rfl)
theorem dL_law_645 : decode cL_law 645 = .ok (.aload_n 2, 1) := dk_44 (dk_at dksL_law_18 22 rfl rfl)
theorem dL_law_646 : decode cL_law 646 = .ok (.invokevirtual 68, 3) := dk_182 0 68 (dk_at dksL_law_19 0 rfl rfl)
theorem dL_law_649 : decode cL_law 649 = .ok (.if_icmp .eq 1194, 3) := dk_159 4 170 (dk_at dksL_law_19 3 rfl rfl)
theorem dL_law_652 : decode cL_law 652 = .ok (.iconst 0, 1) := dk_3 (dk_at dksL_law_19 6 rfl rfl)
theorem dL_law_653 : decode cL_law 653 = .ok (.ireturn, 1) := dk_172 (dk_at dksL_law_19 7 rfl rfl)
theorem dL_law_654 : decode cL_law 654 = .ok (.aload_n 1, 1) := dk_43 (dk_at dksL_law_19 8 rfl rfl)
theorem dL_law_655 : decode cL_law 655 = .ok (.aload_n 0, 1) := dk_42 (dk_at dksL_law_19 9 rfl rfl)
theorem dL_law_656 : decode cL_law 656 = .ok (.iload_n 3, 1) := dk_29 (dk_at dksL_law_19 10 rfl rfl)
theorem dL_law_657 : decode cL_law 657 = .ok (.iconst 1, 1) := dk_4 (dk_at dksL_law_19 11 rfl rfl)
theorem dL_law_658 : decode cL_law 658 = .ok (.iadd, 1) := dk_96 (dk_at dksL_law_19 12 rfl rfl)
theorem dL_law_659 : decode cL_law 659 = .ok (.iaload, 1) := dk_46 (dk_at dksL_law_19 13 rfl rfl)
theorem dL_law_660 : decode cL_law 660 = .ok (.invokevirtual 69, 3) := dk_182 0 69 (dk_at dksL_law_19 14 rfl rfl)
theorem dL_law_663 : decode cL_law 663 = .ok (.aload_n 2, 1) := dk_44 (dk_at dksL_law_19 17 rfl rfl)
theorem dL_law_664 : decode cL_law 664 = .ok (.aload_n 0, 1) := dk_42 (dk_at dksL_law_19 18 rfl rfl)
theorem dL_law_665 : decode cL_law 665 = .ok (.iload_n 3, 1) := dk_29 (dk_at dksL_law_19 19 rfl rfl)
theorem dL_law_666 : decode cL_law 666 = .ok (.iconst 1, 1) := dk_4 (dk_at dksL_law_19 20 rfl rfl)
theorem dL_law_667 : decode cL_law 667 = .ok (.iadd, 1) := dk_96 (dk_at dksL_law_19 21 rfl rfl)
theorem dL_law_668 : decode cL_law 668 = .ok (.iaload, 1) := dk_46 (dk_at dksL_law_19 22 rfl rfl)
theorem dL_law_669 : decode cL_law 669 = .ok (.invokevirtual 72, 3) := dk_182 0 72 (dk_at dksL_law_20 0 rfl rfl)
theorem dL_law_672 : decode cL_law 672 = .ok (.if_icmp .eq 1171, 3) := dk_159 4 147 (dk_at dksL_law_20 3 rfl rfl)
theorem dL_law_675 : decode cL_law 675 = .ok (.iconst 0, 1) := dk_3 (dk_at dksL_law_20 6 rfl rfl)
theorem dL_law_676 : decode cL_law 676 = .ok (.ireturn, 1) := dk_172 (dk_at dksL_law_20 7 rfl rfl)
theorem dL_law_677 : decode cL_law 677 = .ok (.aload_n 1, 1) := dk_43 (dk_at dksL_law_20 8 rfl rfl)
theorem dL_law_678 : decode cL_law 678 = .ok (.aload_n 0, 1) := dk_42 (dk_at dksL_law_20 9 rfl rfl)
theorem dL_law_679 : decode cL_law 679 = .ok (.iload_n 3, 1) := dk_29 (dk_at dksL_law_20 10 rfl rfl)
theorem dL_law_680 : decode cL_law 680 = .ok (.iconst 1, 1) := dk_4 (dk_at dksL_law_20 11 rfl rfl)
theorem dL_law_681 : decode cL_law 681 = .ok (.iadd, 1) := dk_96 (dk_at dksL_law_20 12 rfl rfl)
theorem dL_law_682 : decode cL_law 682 = .ok (.iaload, 1) := dk_46 (dk_at dksL_law_20 13 rfl rfl)
theorem dL_law_683 : decode cL_law 683 = .ok (.invokevirtual 73, 3) := dk_182 0 73 (dk_at dksL_law_20 14 rfl rfl)
theorem dL_law_686 : decode cL_law 686 = .ok (.aload_n 2, 1) := dk_44 (dk_at dksL_law_20 17 rfl rfl)
theorem dL_law_687 : decode cL_law 687 = .ok (.aload_n 0, 1) := dk_42 (dk_at dksL_law_20 18 rfl rfl)
theorem dL_law_688 : decode cL_law 688 = .ok (.iload_n 3, 1) := dk_29 (dk_at dksL_law_20 19 rfl rfl)
theorem dL_law_689 : decode cL_law 689 = .ok (.iconst 1, 1) := dk_4 (dk_at dksL_law_20 20 rfl rfl)
theorem dL_law_690 : decode cL_law 690 = .ok (.iadd, 1) := dk_96 (dk_at dksL_law_20 21 rfl rfl)
theorem dL_law_691 : decode cL_law 691 = .ok (.iaload, 1) := dk_46 (dk_at dksL_law_20 22 rfl rfl)
theorem dL_law_692 : decode cL_law 692 = .ok (.invokevirtual 76, 3) := dk_182 0 76 (dk_at dksL_law_21 0 rfl rfl)
theorem dL_law_695 : decode cL_law 695 = .ok (.if_icmp .eq 1148, 3) := dk_159 4 124 (dk_at dksL_law_21 3 rfl rfl)
theorem dL_law_698 : decode cL_law 698 = .ok (.iconst 0, 1) := dk_3 (dk_at dksL_law_21 6 rfl rfl)
theorem dL_law_699 : decode cL_law 699 = .ok (.ireturn, 1) := dk_172 (dk_at dksL_law_21 7 rfl rfl)
theorem dL_law_700 : decode cL_law 700 = .ok (.aload_n 1, 1) := dk_43 (dk_at dksL_law_21 8 rfl rfl)
theorem dL_law_701 : decode cL_law 701 = .ok (.aload_n 0, 1) := dk_42 (dk_at dksL_law_21 9 rfl rfl)
theorem dL_law_702 : decode cL_law 702 = .ok (.iload_n 3, 1) := dk_29 (dk_at dksL_law_21 10 rfl rfl)
theorem dL_law_703 : decode cL_law 703 = .ok (.iconst 1, 1) := dk_4 (dk_at dksL_law_21 11 rfl rfl)
theorem dL_law_704 : decode cL_law 704 = .ok (.iadd, 1) := dk_96 (dk_at dksL_law_21 12 rfl rfl)
theorem dL_law_705 : decode cL_law 705 = .ok (.iaload, 1) := dk_46 (dk_at dksL_law_21 13 rfl rfl)
theorem dL_law_706 : decode cL_law 706 = .ok (.invokevirtual 77, 3) := dk_182 0 77 (dk_at dksL_law_21 14 rfl rfl)
theorem dL_law_709 : decode cL_law 709 = .ok (.aload_n 2, 1) := dk_44 (dk_at dksL_law_21 17 rfl rfl)
theorem dL_law_710 : decode cL_law 710 = .ok (.aload_n 0, 1) := dk_42 (dk_at dksL_law_21 18 rfl rfl)
theorem dL_law_711 : decode cL_law 711 = .ok (.iload_n 3, 1) := dk_29 (dk_at dksL_law_21 19 rfl rfl)
theorem dL_law_712 : decode cL_law 712 = .ok (.iconst 1, 1) := dk_4 (dk_at dksL_law_21 20 rfl rfl)
theorem dL_law_713 : decode cL_law 713 = .ok (.iadd, 1) := dk_96 (dk_at dksL_law_21 21 rfl rfl)
theorem dL_law_714 : decode cL_law 714 = .ok (.iaload, 1) := dk_46 (dk_at dksL_law_21 22 rfl rfl)
theorem dL_law_715 : decode cL_law 715 = .ok (.invokevirtual 80, 3) := dk_182 0 80 (dk_at dksL_law_22 0 rfl rfl)
theorem dL_law_718 : decode cL_law 718 = .ok (.if_icmp .eq 1125, 3) := dk_159 4 101 (dk_at dksL_law_22 3 rfl rfl)
theorem dL_law_721 : decode cL_law 721 = .ok (.iconst 0, 1) := dk_3 (dk_at dksL_law_22 6 rfl rfl)
theorem dL_law_722 : decode cL_law 722 = .ok (.ireturn, 1) := dk_172 (dk_at dksL_law_22 7 rfl rfl)
theorem dL_law_723 : decode cL_law 723 = .ok (.aload_n 1, 1) := dk_43 (dk_at dksL_law_22 8 rfl rfl)
theorem dL_law_724 : decode cL_law 724 = .ok (.aload_n 0, 1) := dk_42 (dk_at dksL_law_22 9 rfl rfl)
theorem dL_law_725 : decode cL_law 725 = .ok (.iload_n 3, 1) := dk_29 (dk_at dksL_law_22 10 rfl rfl)
theorem dL_law_726 : decode cL_law 726 = .ok (.iconst 1, 1) := dk_4 (dk_at dksL_law_22 11 rfl rfl)
theorem dL_law_727 : decode cL_law 727 = .ok (.iadd, 1) := dk_96 (dk_at dksL_law_22 12 rfl rfl)
theorem dL_law_728 : decode cL_law 728 = .ok (.iaload, 1) := dk_46 (dk_at dksL_law_22 13 rfl rfl)
theorem dL_law_729 : decode cL_law 729 = .ok (.invokevirtual 81, 3) := dk_182 0 81 (dk_at dksL_law_22 14 rfl rfl)
theorem dL_law_732 : decode cL_law 732 = .ok (.aload_n 2, 1) := dk_44 (dk_at dksL_law_22 17 rfl rfl)
theorem dL_law_733 : decode cL_law 733 = .ok (.aload_n 0, 1) := dk_42 (dk_at dksL_law_22 18 rfl rfl)
theorem dL_law_734 : decode cL_law 734 = .ok (.iload_n 3, 1) := dk_29 (dk_at dksL_law_22 19 rfl rfl)
theorem dL_law_735 : decode cL_law 735 = .ok (.iconst 1, 1) := dk_4 (dk_at dksL_law_22 20 rfl rfl)
theorem dL_law_736 : decode cL_law 736 = .ok (.iadd, 1) := dk_96 (dk_at dksL_law_22 21 rfl rfl)
theorem dL_law_737 : decode cL_law 737 = .ok (.iaload, 1) := dk_46 (dk_at dksL_law_22 22 rfl rfl)
theorem dL_law_738 : decode cL_law 738 = .ok (.invokevirtual 84, 3) := dk_182 0 84 (dk_at dksL_law_23 0 rfl rfl)
theorem dL_law_741 : decode cL_law 741 = .ok (.if_icmp .eq 1102, 3) := dk_159 4 78 (dk_at dksL_law_23 3 rfl rfl)
theorem dL_law_744 : decode cL_law 744 = .ok (.iconst 0, 1) := dk_3 (dk_at dksL_law_23 6 rfl rfl)
theorem dL_law_745 : decode cL_law 745 = .ok (.ireturn, 1) := dk_172 (dk_at dksL_law_23 7 rfl rfl)
theorem dL_law_746 : decode cL_law 746 = .ok (.aload_n 1, 1) := dk_43 (dk_at dksL_law_23 8 rfl rfl)
theorem dL_law_747 : decode cL_law 747 = .ok (.invokevirtual 85, 3) := dk_182 0 85 (dk_at dksL_law_23 9 rfl rfl)
theorem dL_law_750 : decode cL_law 750 = .ok (.aload_n 2, 1) := dk_44 (dk_at dksL_law_23 12 rfl rfl)
theorem dL_law_751 : decode cL_law 751 = .ok (.invokevirtual 88, 3) := dk_182 0 88 (dk_at dksL_law_23 13 rfl rfl)
theorem dL_law_754 : decode cL_law 754 = .ok (.if_icmp .eq 1089, 3) := dk_159 4 65 (dk_at dksL_law_23 16 rfl rfl)
theorem dL_law_757 : decode cL_law 757 = .ok (.iconst 0, 1) := dk_3 (dk_at dksL_law_23 19 rfl rfl)
theorem dL_law_758 : decode cL_law 758 = .ok (.ireturn, 1) := dk_172 (dk_at dksL_law_23 20 rfl rfl)
theorem dL_law_759 : decode cL_law 759 = .ok (.aload_n 1, 1) := dk_43 (dk_at dksL_law_23 21 rfl rfl)
theorem dL_law_760 : decode cL_law 760 = .ok (.aload_n 0, 1) := dk_42 (dk_at dksL_law_23 22 rfl rfl)
theorem dL_law_761 : decode cL_law 761 = .ok (.iload_n 3, 1) := dk_29 (dk_at dksL_law_23 23 rfl rfl)
theorem dL_law_762 : decode cL_law 762 = .ok (.iconst 1, 1) := dk_4 (dk_at dksL_law_24 0 rfl rfl)
theorem dL_law_763 : decode cL_law 763 = .ok (.iadd, 1) := dk_96 (dk_at dksL_law_24 1 rfl rfl)
theorem dL_law_764 : decode cL_law 764 = .ok (.iaload, 1) := dk_46 (dk_at dksL_law_24 2 rfl rfl)
theorem dL_law_765 : decode cL_law 765 = .ok (.invokevirtual 89, 3) := dk_182 0 89 (dk_at dksL_law_24 3 rfl rfl)
theorem dL_law_768 : decode cL_law 768 = .ok (.aload_n 2, 1) := dk_44 (dk_at dksL_law_24 6 rfl rfl)
theorem dL_law_769 : decode cL_law 769 = .ok (.aload_n 0, 1) := dk_42 (dk_at dksL_law_24 7 rfl rfl)
theorem dL_law_770 : decode cL_law 770 = .ok (.iload_n 3, 1) := dk_29 (dk_at dksL_law_24 8 rfl rfl)
theorem dL_law_771 : decode cL_law 771 = .ok (.iconst 1, 1) := dk_4 (dk_at dksL_law_24 9 rfl rfl)
theorem dL_law_772 : decode cL_law 772 = .ok (.iadd, 1) := dk_96 (dk_at dksL_law_24 10 rfl rfl)
theorem dL_law_773 : decode cL_law 773 = .ok (.iaload, 1) := dk_46 (dk_at dksL_law_24 11 rfl rfl)
theorem dL_law_774 : decode cL_law 774 = .ok (.invokevirtual 92, 3) := dk_182 0 92 (dk_at dksL_law_24 12 rfl rfl)
theorem dL_law_777 : decode cL_law 777 = .ok (.if_icmp .eq 1066, 3) := dk_159 4 42 (dk_at dksL_law_24 15 rfl rfl)
theorem dL_law_780 : decode cL_law 780 = .ok (.iconst 0, 1) := dk_3 (dk_at dksL_law_24 18 rfl rfl)
theorem dL_law_781 : decode cL_law 781 = .ok (.ireturn, 1) := dk_172 (dk_at dksL_law_24 19 rfl rfl)
theorem dL_law_782 : decode cL_law 782 = .ok (.aload_n 1, 1) := dk_43 (dk_at dksL_law_24 20 rfl rfl)
theorem dL_law_783 : decode cL_law 783 = .ok (.aload_n 0, 1) := dk_42 (dk_at dksL_law_24 21 rfl rfl)
theorem dL_law_784 : decode cL_law 784 = .ok (.iload_n 3, 1) := dk_29 (dk_at dksL_law_24 22 rfl rfl)
theorem dL_law_785 : decode cL_law 785 = .ok (.iconst 1, 1) := dk_4 (dk_at dksL_law_24 23 rfl rfl)
theorem dL_law_786 : decode cL_law 786 = .ok (.iadd, 1) := dk_96 (dk_at dksL_law_25 0 rfl rfl)
theorem dL_law_787 : decode cL_law 787 = .ok (.iaload, 1) := dk_46 (dk_at dksL_law_25 1 rfl rfl)
theorem dL_law_788 : decode cL_law 788 = .ok (.invokevirtual 93, 3) := dk_182 0 93 (dk_at dksL_law_25 2 rfl rfl)
theorem dL_law_791 : decode cL_law 791 = .ok (.aload_n 2, 1) := dk_44 (dk_at dksL_law_25 5 rfl rfl)
theorem dL_law_792 : decode cL_law 792 = .ok (.aload_n 0, 1) := dk_42 (dk_at dksL_law_25 6 rfl rfl)
theorem dL_law_793 : decode cL_law 793 = .ok (.iload_n 3, 1) := dk_29 (dk_at dksL_law_25 7 rfl rfl)
theorem dL_law_794 : decode cL_law 794 = .ok (.iconst 1, 1) := dk_4 (dk_at dksL_law_25 8 rfl rfl)
theorem dL_law_795 : decode cL_law 795 = .ok (.iadd, 1) := dk_96 (dk_at dksL_law_25 9 rfl rfl)
theorem dL_law_796 : decode cL_law 796 = .ok (.iaload, 1) := dk_46 (dk_at dksL_law_25 10 rfl rfl)
theorem dL_law_797 : decode cL_law 797 = .ok (.invokevirtual 96, 3) := dk_182 0 96 (dk_at dksL_law_25 11 rfl rfl)
theorem dL_law_800 : decode cL_law 800 = .ok (.if_icmp .eq 1043, 3) := dk_159 4 19 (dk_at dksL_law_25 14 rfl rfl)
theorem dL_law_803 : decode cL_law 803 = .ok (.iconst 0, 1) := dk_3 (dk_at dksL_law_25 17 rfl rfl)
theorem dL_law_804 : decode cL_law 804 = .ok (.ireturn, 1) := dk_172 (dk_at dksL_law_25 18 rfl rfl)
theorem dL_law_805 : decode cL_law 805 = .ok (.aload_n 1, 1) := dk_43 (dk_at dksL_law_25 19 rfl rfl)
theorem dL_law_806 : decode cL_law 806 = .ok (.aload_n 0, 1) := dk_42 (dk_at dksL_law_25 20 rfl rfl)
theorem dL_law_807 : decode cL_law 807 = .ok (.iload_n 3, 1) := dk_29 (dk_at dksL_law_25 21 rfl rfl)
theorem dL_law_808 : decode cL_law 808 = .ok (.iconst 1, 1) := dk_4 (dk_at dksL_law_25 22 rfl rfl)
theorem dL_law_809 : decode cL_law 809 = .ok (.iadd, 1) := dk_96 (dk_at dksL_law_25 23 rfl rfl)
theorem dL_law_810 : decode cL_law 810 = .ok (.iaload, 1) := dk_46 (dk_at dksL_law_26 0 rfl rfl)
theorem dL_law_811 : decode cL_law 811 = .ok (.invokevirtual 97, 3) := dk_182 0 97 (dk_at dksL_law_26 1 rfl rfl)
theorem dL_law_814 : decode cL_law 814 = .ok (.aload_n 2, 1) := dk_44 (dk_at dksL_law_26 4 rfl rfl)
theorem dL_law_815 : decode cL_law 815 = .ok (.aload_n 0, 1) := dk_42 (dk_at dksL_law_26 5 rfl rfl)
theorem dL_law_816 : decode cL_law 816 = .ok (.iload_n 3, 1) := dk_29 (dk_at dksL_law_26 6 rfl rfl)
theorem dL_law_817 : decode cL_law 817 = .ok (.iconst 1, 1) := dk_4 (dk_at dksL_law_26 7 rfl rfl)
theorem dL_law_818 : decode cL_law 818 = .ok (.iadd, 1) := dk_96 (dk_at dksL_law_26 8 rfl rfl)
theorem dL_law_819 : decode cL_law 819 = .ok (.iaload, 1) := dk_46 (dk_at dksL_law_26 9 rfl rfl)
theorem dL_law_820 : decode cL_law 820 = .ok (.invokevirtual 100, 3) := dk_182 0 100 (dk_at dksL_law_26 10 rfl rfl)
theorem dL_law_823 : decode cL_law 823 = .ok (.if_icmp .eq 1020, 3) := dk_159 3 252 (dk_at dksL_law_26 13 rfl rfl)
theorem dL_law_826 : decode cL_law 826 = .ok (.iconst 0, 1) := dk_3 (dk_at dksL_law_26 16 rfl rfl)
theorem dL_law_827 : decode cL_law 827 = .ok (.ireturn, 1) := dk_172 (dk_at dksL_law_26 17 rfl rfl)
theorem dL_law_828 : decode cL_law 828 = .ok (.aload_n 1, 1) := dk_43 (dk_at dksL_law_26 18 rfl rfl)
theorem dL_law_829 : decode cL_law 829 = .ok (.aload_n 0, 1) := dk_42 (dk_at dksL_law_26 19 rfl rfl)
theorem dL_law_830 : decode cL_law 830 = .ok (.iload_n 3, 1) := dk_29 (dk_at dksL_law_26 20 rfl rfl)
theorem dL_law_831 : decode cL_law 831 = .ok (.iconst 1, 1) := dk_4 (dk_at dksL_law_26 21 rfl rfl)
theorem dL_law_832 : decode cL_law 832 = .ok (.iadd, 1) := dk_96 (dk_at dksL_law_26 22 rfl rfl)
theorem dL_law_833 : decode cL_law 833 = .ok (.iaload, 1) := dk_46 (dk_at dksL_law_26 23 rfl rfl)
theorem dL_law_834 : decode cL_law 834 = .ok (.aload_n 0, 1) := dk_42 (dk_at dksL_law_27 0 rfl rfl)
theorem dL_law_835 : decode cL_law 835 = .ok (.iload_n 3, 1) := dk_29 (dk_at dksL_law_27 1 rfl rfl)
theorem dL_law_836 : decode cL_law 836 = .ok (.iconst 2, 1) := dk_5 (dk_at dksL_law_27 2 rfl rfl)
theorem dL_law_837 : decode cL_law 837 = .ok (.iadd, 1) := dk_96 (dk_at dksL_law_27 3 rfl rfl)
theorem dL_law_838 : decode cL_law 838 = .ok (.iaload, 1) := dk_46 (dk_at dksL_law_27 4 rfl rfl)
theorem dL_law_839 : decode cL_law 839 = .ok (.aload_n 0, 1) := dk_42 (dk_at dksL_law_27 5 rfl rfl)
theorem dL_law_840 : decode cL_law 840 = .ok (.iload_n 3, 1) := dk_29 (dk_at dksL_law_27 6 rfl rfl)
theorem dL_law_841 : decode cL_law 841 = .ok (.iconst 3, 1) := dk_6 (dk_at dksL_law_27 7 rfl rfl)
theorem dL_law_842 : decode cL_law 842 = .ok (.iadd, 1) := dk_96 (dk_at dksL_law_27 8 rfl rfl)
theorem dL_law_843 : decode cL_law 843 = .ok (.iaload, 1) := dk_46 (dk_at dksL_law_27 9 rfl rfl)
theorem dL_law_844 : decode cL_law 844 = .ok (.invokevirtual 101, 3) := dk_182 0 101 (dk_at dksL_law_27 10 rfl rfl)
theorem dL_law_847 : decode cL_law 847 = .ok (.aload_n 2, 1) := dk_44 (dk_at dksL_law_27 13 rfl rfl)
theorem dL_law_848 : decode cL_law 848 = .ok (.aload_n 0, 1) := dk_42 (dk_at dksL_law_27 14 rfl rfl)
theorem dL_law_849 : decode cL_law 849 = .ok (.iload_n 3, 1) := dk_29 (dk_at dksL_law_27 15 rfl rfl)
theorem dL_law_850 : decode cL_law 850 = .ok (.iconst 1, 1) := dk_4 (dk_at dksL_law_27 16 rfl rfl)
theorem dL_law_851 : decode cL_law 851 = .ok (.iadd, 1) := dk_96 (dk_at dksL_law_27 17 rfl rfl)
theorem dL_law_852 : decode cL_law 852 = .ok (.iaload, 1) := dk_46 (dk_at dksL_law_27 18 rfl rfl)
theorem dL_law_853 : decode cL_law 853 = .ok (.aload_n 0, 1) := dk_42 (dk_at dksL_law_27 19 rfl rfl)
theorem dL_law_854 : decode cL_law 854 = .ok (.iload_n 3, 1) := dk_29 (dk_at dksL_law_27 20 rfl rfl)
theorem dL_law_855 : decode cL_law 855 = .ok (.iconst 2, 1) := dk_5 (dk_at dksL_law_27 21 rfl rfl)
theorem dL_law_856 : decode cL_law 856 = .ok (.iadd, 1) := dk_96 (dk_at dksL_law_27 22 rfl rfl)
theorem dL_law_857 : decode cL_law 857 = .ok (.iaload, 1) := dk_46 (dk_at dksL_law_27 23 rfl rfl)
theorem dL_law_858 : decode cL_law 858 = .ok (.aload_n 0, 1) := dk_42 (dk_at dksL_law_28 0 rfl rfl)
theorem dL_law_859 : decode cL_law 859 = .ok (.iload_n 3, 1) := dk_29 (dk_at dksL_law_28 1 rfl rfl)
theorem dL_law_860 : decode cL_law 860 = .ok (.iconst 3, 1) := dk_6 (dk_at dksL_law_28 2 rfl rfl)
theorem dL_law_861 : decode cL_law 861 = .ok (.iadd, 1) := dk_96 (dk_at dksL_law_28 3 rfl rfl)
theorem dL_law_862 : decode cL_law 862 = .ok (.iaload, 1) := dk_46 (dk_at dksL_law_28 4 rfl rfl)
theorem dL_law_863 : decode cL_law 863 = .ok (.invokevirtual 104, 3) := dk_182 0 104 (dk_at dksL_law_28 5 rfl rfl)
theorem dL_law_866 : decode cL_law 866 = .ok (.if_icmp .eq 977, 3) := dk_159 3 209 (dk_at dksL_law_28 8 rfl rfl)
theorem dL_law_869 : decode cL_law 869 = .ok (.iconst 0, 1) := dk_3 (dk_at dksL_law_28 11 rfl rfl)
theorem dL_law_870 : decode cL_law 870 = .ok (.ireturn, 1) := dk_172 (dk_at dksL_law_28 12 rfl rfl)
theorem dL_law_871 : decode cL_law 871 = .ok (.aload_n 1, 1) := dk_43 (dk_at dksL_law_28 13 rfl rfl)
theorem dL_law_872 : decode cL_law 872 = .ok (.aload_n 0, 1) := dk_42 (dk_at dksL_law_28 14 rfl rfl)
theorem dL_law_873 : decode cL_law 873 = .ok (.iload_n 3, 1) := dk_29 (dk_at dksL_law_28 15 rfl rfl)
theorem dL_law_874 : decode cL_law 874 = .ok (.iconst 1, 1) := dk_4 (dk_at dksL_law_28 16 rfl rfl)
theorem dL_law_875 : decode cL_law 875 = .ok (.iadd, 1) := dk_96 (dk_at dksL_law_28 17 rfl rfl)
theorem dL_law_876 : decode cL_law 876 = .ok (.iaload, 1) := dk_46 (dk_at dksL_law_28 18 rfl rfl)
theorem dL_law_877 : decode cL_law 877 = .ok (.aload_n 0, 1) := dk_42 (dk_at dksL_law_28 19 rfl rfl)
theorem dL_law_878 : decode cL_law 878 = .ok (.iload_n 3, 1) := dk_29 (dk_at dksL_law_28 20 rfl rfl)
theorem dL_law_879 : decode cL_law 879 = .ok (.iconst 2, 1) := dk_5 (dk_at dksL_law_28 21 rfl rfl)
theorem dL_law_880 : decode cL_law 880 = .ok (.iadd, 1) := dk_96 (dk_at dksL_law_28 22 rfl rfl)
theorem dL_law_881 : decode cL_law 881 = .ok (.iaload, 1) := dk_46 (dk_at dksL_law_28 23 rfl rfl)
theorem dL_law_882 : decode cL_law 882 = .ok (.invokevirtual 105, 3) := dk_182 0 105 (dk_at dksL_law_29 0 rfl rfl)
theorem dL_law_885 : decode cL_law 885 = .ok (.aload_n 2, 1) := dk_44 (dk_at dksL_law_29 3 rfl rfl)
theorem dL_law_886 : decode cL_law 886 = .ok (.aload_n 0, 1) := dk_42 (dk_at dksL_law_29 4 rfl rfl)
theorem dL_law_887 : decode cL_law 887 = .ok (.iload_n 3, 1) := dk_29 (dk_at dksL_law_29 5 rfl rfl)
theorem dL_law_888 : decode cL_law 888 = .ok (.iconst 1, 1) := dk_4 (dk_at dksL_law_29 6 rfl rfl)
theorem dL_law_889 : decode cL_law 889 = .ok (.iadd, 1) := dk_96 (dk_at dksL_law_29 7 rfl rfl)
theorem dL_law_890 : decode cL_law 890 = .ok (.iaload, 1) := dk_46 (dk_at dksL_law_29 8 rfl rfl)
theorem dL_law_891 : decode cL_law 891 = .ok (.aload_n 0, 1) := dk_42 (dk_at dksL_law_29 9 rfl rfl)
theorem dL_law_892 : decode cL_law 892 = .ok (.iload_n 3, 1) := dk_29 (dk_at dksL_law_29 10 rfl rfl)
theorem dL_law_893 : decode cL_law 893 = .ok (.iconst 2, 1) := dk_5 (dk_at dksL_law_29 11 rfl rfl)
theorem dL_law_894 : decode cL_law 894 = .ok (.iadd, 1) := dk_96 (dk_at dksL_law_29 12 rfl rfl)
theorem dL_law_895 : decode cL_law 895 = .ok (.iaload, 1) := dk_46 (dk_at dksL_law_29 13 rfl rfl)
theorem dL_law_896 : decode cL_law 896 = .ok (.invokevirtual 108, 3) := dk_182 0 108 (dk_at dksL_law_29 14 rfl rfl)
theorem dL_law_899 : decode cL_law 899 = .ok (.if_icmp .eq 944, 3) := dk_159 3 176 (dk_at dksL_law_29 17 rfl rfl)
theorem dL_law_902 : decode cL_law 902 = .ok (.iconst 0, 1) := dk_3 (dk_at dksL_law_29 20 rfl rfl)
theorem dL_law_903 : decode cL_law 903 = .ok (.ireturn, 1) := dk_172 (dk_at dksL_law_29 21 rfl rfl)
theorem dL_law_904 : decode cL_law 904 = .ok (.aload_n 1, 1) := dk_43 (dk_at dksL_law_29 22 rfl rfl)
theorem dL_law_905 : decode cL_law 905 = .ok (.aload_n 0, 1) := dk_42 (dk_at dksL_law_29 23 rfl rfl)
theorem dL_law_906 : decode cL_law 906 = .ok (.iload_n 3, 1) := dk_29 (dk_at dksL_law_30 0 rfl rfl)
theorem dL_law_907 : decode cL_law 907 = .ok (.iconst 1, 1) := dk_4 (dk_at dksL_law_30 1 rfl rfl)
theorem dL_law_908 : decode cL_law 908 = .ok (.iadd, 1) := dk_96 (dk_at dksL_law_30 2 rfl rfl)
theorem dL_law_909 : decode cL_law 909 = .ok (.iaload, 1) := dk_46 (dk_at dksL_law_30 3 rfl rfl)
theorem dL_law_910 : decode cL_law 910 = .ok (.invokevirtual 109, 3) := dk_182 0 109 (dk_at dksL_law_30 4 rfl rfl)
theorem dL_law_913 : decode cL_law 913 = .ok (.aload_n 2, 1) := dk_44 (dk_at dksL_law_30 7 rfl rfl)
theorem dL_law_914 : decode cL_law 914 = .ok (.aload_n 0, 1) := dk_42 (dk_at dksL_law_30 8 rfl rfl)
theorem dL_law_915 : decode cL_law 915 = .ok (.iload_n 3, 1) := dk_29 (dk_at dksL_law_30 9 rfl rfl)
theorem dL_law_916 : decode cL_law 916 = .ok (.iconst 1, 1) := dk_4 (dk_at dksL_law_30 10 rfl rfl)
theorem dL_law_917 : decode cL_law 917 = .ok (.iadd, 1) := dk_96 (dk_at dksL_law_30 11 rfl rfl)
theorem dL_law_918 : decode cL_law 918 = .ok (.iaload, 1) := dk_46 (dk_at dksL_law_30 12 rfl rfl)
theorem dL_law_919 : decode cL_law 919 = .ok (.invokevirtual 112, 3) := dk_182 0 112 (dk_at dksL_law_30 13 rfl rfl)
theorem dL_law_922 : decode cL_law 922 = .ok (.if_icmp .eq 921, 3) := dk_159 3 153 (dk_at dksL_law_30 16 rfl rfl)
theorem dL_law_925 : decode cL_law 925 = .ok (.iconst 0, 1) := dk_3 (dk_at dksL_law_30 19 rfl rfl)
theorem dL_law_926 : decode cL_law 926 = .ok (.ireturn, 1) := dk_172 (dk_at dksL_law_30 20 rfl rfl)
theorem dL_law_927 : decode cL_law 927 = .ok (.aload_n 1, 1) := dk_43 (dk_at dksL_law_30 21 rfl rfl)
theorem dL_law_928 : decode cL_law 928 = .ok (.aload_n 0, 1) := dk_42 (dk_at dksL_law_30 22 rfl rfl)
theorem dL_law_929 : decode cL_law 929 = .ok (.iload_n 3, 1) := dk_29 (dk_at dksL_law_30 23 rfl rfl)
theorem dL_law_930 : decode cL_law 930 = .ok (.iconst 1, 1) := dk_4 (dk_at dksL_law_31 0 rfl rfl)
theorem dL_law_931 : decode cL_law 931 = .ok (.iadd, 1) := dk_96 (dk_at dksL_law_31 1 rfl rfl)
theorem dL_law_932 : decode cL_law 932 = .ok (.iaload, 1) := dk_46 (dk_at dksL_law_31 2 rfl rfl)
theorem dL_law_933 : decode cL_law 933 = .ok (.invokevirtual 113, 3) := dk_182 0 113 (dk_at dksL_law_31 3 rfl rfl)
theorem dL_law_936 : decode cL_law 936 = .ok (.aload_n 2, 1) := dk_44 (dk_at dksL_law_31 6 rfl rfl)
theorem dL_law_937 : decode cL_law 937 = .ok (.aload_n 0, 1) := dk_42 (dk_at dksL_law_31 7 rfl rfl)
theorem dL_law_938 : decode cL_law 938 = .ok (.iload_n 3, 1) := dk_29 (dk_at dksL_law_31 8 rfl rfl)
theorem dL_law_939 : decode cL_law 939 = .ok (.iconst 1, 1) := dk_4 (dk_at dksL_law_31 9 rfl rfl)
theorem dL_law_940 : decode cL_law 940 = .ok (.iadd, 1) := dk_96 (dk_at dksL_law_31 10 rfl rfl)
theorem dL_law_941 : decode cL_law 941 = .ok (.iaload, 1) := dk_46 (dk_at dksL_law_31 11 rfl rfl)
theorem dL_law_942 : decode cL_law 942 = .ok (.invokevirtual 116, 3) := dk_182 0 116 (dk_at dksL_law_31 12 rfl rfl)
theorem dL_law_945 : decode cL_law 945 = .ok (.if_icmp .eq 898, 3) := dk_159 3 130 (dk_at dksL_law_31 15 rfl rfl)
theorem dL_law_948 : decode cL_law 948 = .ok (.iconst 0, 1) := dk_3 (dk_at dksL_law_31 18 rfl rfl)
theorem dL_law_949 : decode cL_law 949 = .ok (.ireturn, 1) := dk_172 (dk_at dksL_law_31 19 rfl rfl)
theorem dL_law_950 : decode cL_law 950 = .ok (.aload_n 1, 1) := dk_43 (dk_at dksL_law_31 20 rfl rfl)
theorem dL_law_951 : decode cL_law 951 = .ok (.invokevirtual 117, 3) := dk_182 0 117 (dk_at dksL_law_31 21 rfl rfl)
theorem dL_law_954 : decode cL_law 954 = .ok (.aload_n 2, 1) := dk_44 (dk_at dksL_law_32 0 rfl rfl)
theorem dL_law_955 : decode cL_law 955 = .ok (.invokevirtual 120, 3) := dk_182 0 120 (dk_at dksL_law_32 1 rfl rfl)
theorem dL_law_958 : decode cL_law 958 = .ok (.if_icmp .eq 885, 3) := dk_159 3 117 (dk_at dksL_law_32 4 rfl rfl)
theorem dL_law_961 : decode cL_law 961 = .ok (.iconst 0, 1) := dk_3 (dk_at dksL_law_32 7 rfl rfl)
theorem dL_law_962 : decode cL_law 962 = .ok (.ireturn, 1) := dk_172 (dk_at dksL_law_32 8 rfl rfl)
theorem dL_law_963 : decode cL_law 963 = .ok (.aload_n 1, 1) := dk_43 (dk_at dksL_law_32 9 rfl rfl)
theorem dL_law_964 : decode cL_law 964 = .ok (.aload_n 0, 1) := dk_42 (dk_at dksL_law_32 10 rfl rfl)
theorem dL_law_965 : decode cL_law 965 = .ok (.iload_n 3, 1) := dk_29 (dk_at dksL_law_32 11 rfl rfl)
theorem dL_law_966 : decode cL_law 966 = .ok (.iconst 1, 1) := dk_4 (dk_at dksL_law_32 12 rfl rfl)
theorem dL_law_967 : decode cL_law 967 = .ok (.iadd, 1) := dk_96 (dk_at dksL_law_32 13 rfl rfl)
theorem dL_law_968 : decode cL_law 968 = .ok (.iaload, 1) := dk_46 (dk_at dksL_law_32 14 rfl rfl)
theorem dL_law_969 : decode cL_law 969 = .ok (.invokevirtual 121, 3) := dk_182 0 121 (dk_at dksL_law_32 15 rfl rfl)
theorem dL_law_972 : decode cL_law 972 = .ok (.aload_n 2, 1) := dk_44 (dk_at dksL_law_32 18 rfl rfl)
theorem dL_law_973 : decode cL_law 973 = .ok (.aload_n 0, 1) := dk_42 (dk_at dksL_law_32 19 rfl rfl)
theorem dL_law_974 : decode cL_law 974 = .ok (.iload_n 3, 1) := dk_29 (dk_at dksL_law_32 20 rfl rfl)
theorem dL_law_975 : decode cL_law 975 = .ok (.iconst 1, 1) := dk_4 (dk_at dksL_law_32 21 rfl rfl)
theorem dL_law_976 : decode cL_law 976 = .ok (.iadd, 1) := dk_96 (dk_at dksL_law_32 22 rfl rfl)
theorem dL_law_977 : decode cL_law 977 = .ok (.iaload, 1) := dk_46 (dk_at dksL_law_32 23 rfl rfl)
theorem dL_law_978 : decode cL_law 978 = .ok (.invokevirtual 124, 3) := dk_182 0 124 (dk_at dksL_law_33 0 rfl rfl)
theorem dL_law_981 : decode cL_law 981 = .ok (.if_icmp .eq 862, 3) := dk_159 3 94 (dk_at dksL_law_33 3 rfl rfl)
theorem dL_law_984 : decode cL_law 984 = .ok (.iconst 0, 1) := dk_3 (dk_at dksL_law_33 6 rfl rfl)
theorem dL_law_985 : decode cL_law 985 = .ok (.ireturn, 1) := dk_172 (dk_at dksL_law_33 7 rfl rfl)
theorem dL_law_986 : decode cL_law 986 = .ok (.aload_n 1, 1) := dk_43 (dk_at dksL_law_33 8 rfl rfl)
theorem dL_law_987 : decode cL_law 987 = .ok (.aload_n 0, 1) := dk_42 (dk_at dksL_law_33 9 rfl rfl)
theorem dL_law_988 : decode cL_law 988 = .ok (.iload_n 3, 1) := dk_29 (dk_at dksL_law_33 10 rfl rfl)
theorem dL_law_989 : decode cL_law 989 = .ok (.iconst 1, 1) := dk_4 (dk_at dksL_law_33 11 rfl rfl)
theorem dL_law_990 : decode cL_law 990 = .ok (.iadd, 1) := dk_96 (dk_at dksL_law_33 12 rfl rfl)
theorem dL_law_991 : decode cL_law 991 = .ok (.iaload, 1) := dk_46 (dk_at dksL_law_33 13 rfl rfl)
theorem dL_law_992 : decode cL_law 992 = .ok (.aload_n 0, 1) := dk_42 (dk_at dksL_law_33 14 rfl rfl)
theorem dL_law_993 : decode cL_law 993 = .ok (.iload_n 3, 1) := dk_29 (dk_at dksL_law_33 15 rfl rfl)
theorem dL_law_994 : decode cL_law 994 = .ok (.iconst 2, 1) := dk_5 (dk_at dksL_law_33 16 rfl rfl)
theorem dL_law_995 : decode cL_law 995 = .ok (.iadd, 1) := dk_96 (dk_at dksL_law_33 17 rfl rfl)
theorem dL_law_996 : decode cL_law 996 = .ok (.iaload, 1) := dk_46 (dk_at dksL_law_33 18 rfl rfl)
theorem dL_law_997 : decode cL_law 997 = .ok (.invokevirtual 125, 3) := dk_182 0 125 (dk_at dksL_law_33 19 rfl rfl)
theorem dL_law_1000 : decode cL_law 1000 = .ok (.aload_n 2, 1) := dk_44 (dk_at dksL_law_33 22 rfl rfl)
theorem dL_law_1001 : decode cL_law 1001 = .ok (.aload_n 0, 1) := dk_42 (dk_at dksL_law_33 23 rfl rfl)
theorem dL_law_1002 : decode cL_law 1002 = .ok (.iload_n 3, 1) := dk_29 (dk_at dksL_law_34 0 rfl rfl)
theorem dL_law_1003 : decode cL_law 1003 = .ok (.iconst 1, 1) := dk_4 (dk_at dksL_law_34 1 rfl rfl)
theorem dL_law_1004 : decode cL_law 1004 = .ok (.iadd, 1) := dk_96 (dk_at dksL_law_34 2 rfl rfl)
theorem dL_law_1005 : decode cL_law 1005 = .ok (.iaload, 1) := dk_46 (dk_at dksL_law_34 3 rfl rfl)
theorem dL_law_1006 : decode cL_law 1006 = .ok (.aload_n 0, 1) := dk_42 (dk_at dksL_law_34 4 rfl rfl)
theorem dL_law_1007 : decode cL_law 1007 = .ok (.iload_n 3, 1) := dk_29 (dk_at dksL_law_34 5 rfl rfl)
theorem dL_law_1008 : decode cL_law 1008 = .ok (.iconst 2, 1) := dk_5 (dk_at dksL_law_34 6 rfl rfl)
theorem dL_law_1009 : decode cL_law 1009 = .ok (.iadd, 1) := dk_96 (dk_at dksL_law_34 7 rfl rfl)
theorem dL_law_1010 : decode cL_law 1010 = .ok (.iaload, 1) := dk_46 (dk_at dksL_law_34 8 rfl rfl)
theorem dL_law_1011 : decode cL_law 1011 = .ok (.invokevirtual 128, 3) := dk_182 0 128 (dk_at dksL_law_34 9 rfl rfl)
theorem dL_law_1014 : decode cL_law 1014 = .ok (.if_icmp .eq 829, 3) := dk_159 3 61 (dk_at dksL_law_34 12 rfl rfl)
theorem dL_law_1017 : decode cL_law 1017 = .ok (.iconst 0, 1) := dk_3 (dk_at dksL_law_34 15 rfl rfl)
theorem dL_law_1018 : decode cL_law 1018 = .ok (.ireturn, 1) := dk_172 (dk_at dksL_law_34 16 rfl rfl)
theorem dL_law_1019 : decode cL_law 1019 = .ok (.aload_n 1, 1) := dk_43 (dk_at dksL_law_34 17 rfl rfl)
theorem dL_law_1020 : decode cL_law 1020 = .ok (.aload_n 0, 1) := dk_42 (dk_at dksL_law_34 18 rfl rfl)
theorem dL_law_1021 : decode cL_law 1021 = .ok (.iload_n 3, 1) := dk_29 (dk_at dksL_law_34 19 rfl rfl)
theorem dL_law_1022 : decode cL_law 1022 = .ok (.iconst 1, 1) := dk_4 (dk_at dksL_law_34 20 rfl rfl)
theorem dL_law_1023 : decode cL_law 1023 = .ok (.iadd, 1) := dk_96 (dk_at dksL_law_34 21 rfl rfl)
theorem dL_law_1024 : decode cL_law 1024 = .ok (.iaload, 1) := dk_46 (dk_at dksL_law_34 22 rfl rfl)
theorem dL_law_1025 : decode cL_law 1025 = .ok (.invokevirtual 129, 3) := dk_182 0 129 (dk_at dksL_law_35 0 rfl rfl)
theorem dL_law_1028 : decode cL_law 1028 = .ok (.aload_n 2, 1) := dk_44 (dk_at dksL_law_35 3 rfl rfl)
theorem dL_law_1029 : decode cL_law 1029 = .ok (.aload_n 0, 1) := dk_42 (dk_at dksL_law_35 4 rfl rfl)
theorem dL_law_1030 : decode cL_law 1030 = .ok (.iload_n 3, 1) := dk_29 (dk_at dksL_law_35 5 rfl rfl)
theorem dL_law_1031 : decode cL_law 1031 = .ok (.iconst 1, 1) := dk_4 (dk_at dksL_law_35 6 rfl rfl)
theorem dL_law_1032 : decode cL_law 1032 = .ok (.iadd, 1) := dk_96 (dk_at dksL_law_35 7 rfl rfl)
theorem dL_law_1033 : decode cL_law 1033 = .ok (.iaload, 1) := dk_46 (dk_at dksL_law_35 8 rfl rfl)
theorem dL_law_1034 : decode cL_law 1034 = .ok (.invokevirtual 132, 3) := dk_182 0 132 (dk_at dksL_law_35 9 rfl rfl)
theorem dL_law_1037 : decode cL_law 1037 = .ok (.if_icmp .eq 806, 3) := dk_159 3 38 (dk_at dksL_law_35 12 rfl rfl)
theorem dL_law_1040 : decode cL_law 1040 = .ok (.iconst 0, 1) := dk_3 (dk_at dksL_law_35 15 rfl rfl)
theorem dL_law_1041 : decode cL_law 1041 = .ok (.ireturn, 1) := dk_172 (dk_at dksL_law_35 16 rfl rfl)
theorem dL_law_1042 : decode cL_law 1042 = .ok (.aload_n 1, 1) := dk_43 (dk_at dksL_law_35 17 rfl rfl)
theorem dL_law_1043 : decode cL_law 1043 = .ok (.aload_n 0, 1) := dk_42 (dk_at dksL_law_35 18 rfl rfl)
theorem dL_law_1044 : decode cL_law 1044 = .ok (.iload_n 3, 1) := dk_29 (dk_at dksL_law_35 19 rfl rfl)
theorem dL_law_1045 : decode cL_law 1045 = .ok (.iconst 1, 1) := dk_4 (dk_at dksL_law_35 20 rfl rfl)
theorem dL_law_1046 : decode cL_law 1046 = .ok (.iadd, 1) := dk_96 (dk_at dksL_law_35 21 rfl rfl)
theorem dL_law_1047 : decode cL_law 1047 = .ok (.iaload, 1) := dk_46 (dk_at dksL_law_35 22 rfl rfl)
theorem dL_law_1048 : decode cL_law 1048 = .ok (.aload_n 0, 1) := dk_42 (dk_at dksL_law_35 23 rfl rfl)
theorem dL_law_1049 : decode cL_law 1049 = .ok (.iload_n 3, 1) := dk_29 (dk_at dksL_law_36 0 rfl rfl)
theorem dL_law_1050 : decode cL_law 1050 = .ok (.iconst 2, 1) := dk_5 (dk_at dksL_law_36 1 rfl rfl)
theorem dL_law_1051 : decode cL_law 1051 = .ok (.iadd, 1) := dk_96 (dk_at dksL_law_36 2 rfl rfl)
theorem dL_law_1052 : decode cL_law 1052 = .ok (.iaload, 1) := dk_46 (dk_at dksL_law_36 3 rfl rfl)
theorem dL_law_1053 : decode cL_law 1053 = .ok (.invokevirtual 133, 3) := dk_182 0 133 (dk_at dksL_law_36 4 rfl rfl)
theorem dL_law_1056 : decode cL_law 1056 = .ok (.aload_n 2, 1) := dk_44 (dk_at dksL_law_36 7 rfl rfl)
theorem dL_law_1057 : decode cL_law 1057 = .ok (.aload_n 0, 1) := dk_42 (dk_at dksL_law_36 8 rfl rfl)
theorem dL_law_1058 : decode cL_law 1058 = .ok (.iload_n 3, 1) := dk_29 (dk_at dksL_law_36 9 rfl rfl)
theorem dL_law_1059 : decode cL_law 1059 = .ok (.iconst 1, 1) := dk_4 (dk_at dksL_law_36 10 rfl rfl)
theorem dL_law_1060 : decode cL_law 1060 = .ok (.iadd, 1) := dk_96 (dk_at dksL_law_36 11 rfl rfl)
theorem dL_law_1061 : decode cL_law 1061 = .ok (.iaload, 1) := dk_46 (dk_at dksL_law_36 12 rfl rfl)
theorem dL_law_1062 : decode cL_law 1062 = .ok (.aload_n 0, 1) := dk_42 (dk_at dksL_law_36 13 rfl rfl)
theorem dL_law_1063 : decode cL_law 1063 = .ok (.iload_n 3, 1) := dk_29 (dk_at dksL_law_36 14 rfl rfl)
theorem dL_law_1064 : decode cL_law 1064 = .ok (.iconst 2, 1) := dk_5 (dk_at dksL_law_36 15 rfl rfl)
theorem dL_law_1065 : decode cL_law 1065 = .ok (.iadd, 1) := dk_96 (dk_at dksL_law_36 16 rfl rfl)
theorem dL_law_1066 : decode cL_law 1066 = .ok (.iaload, 1) := dk_46 (dk_at dksL_law_36 17 rfl rfl)
theorem dL_law_1067 : decode cL_law 1067 = .ok (.invokevirtual 136, 3) := dk_182 0 136 (dk_at dksL_law_36 18 rfl rfl)
theorem dL_law_1070 : decode cL_law 1070 = .ok (.if_icmp .eq 773, 3) := dk_159 3 5 (dk_at dksL_law_36 21 rfl rfl)
theorem dL_law_1073 : decode cL_law 1073 = .ok (.iconst 0, 1) := dk_3 (dk_at dksL_law_37 0 rfl rfl)
theorem dL_law_1074 : decode cL_law 1074 = .ok (.ireturn, 1) := dk_172 (dk_at dksL_law_37 1 rfl rfl)
theorem dL_law_1075 : decode cL_law 1075 = .ok (.aload_n 1, 1) := dk_43 (dk_at dksL_law_37 2 rfl rfl)
theorem dL_law_1076 : decode cL_law 1076 = .ok (.aload_n 0, 1) := dk_42 (dk_at dksL_law_37 3 rfl rfl)
theorem dL_law_1077 : decode cL_law 1077 = .ok (.iload_n 3, 1) := dk_29 (dk_at dksL_law_37 4 rfl rfl)
theorem dL_law_1078 : decode cL_law 1078 = .ok (.iconst 1, 1) := dk_4 (dk_at dksL_law_37 5 rfl rfl)
theorem dL_law_1079 : decode cL_law 1079 = .ok (.iadd, 1) := dk_96 (dk_at dksL_law_37 6 rfl rfl)
theorem dL_law_1080 : decode cL_law 1080 = .ok (.iaload, 1) := dk_46 (dk_at dksL_law_37 7 rfl rfl)
theorem dL_law_1081 : decode cL_law 1081 = .ok (.aload_n 0, 1) := dk_42 (dk_at dksL_law_37 8 rfl rfl)
theorem dL_law_1082 : decode cL_law 1082 = .ok (.iload_n 3, 1) := dk_29 (dk_at dksL_law_37 9 rfl rfl)
theorem dL_law_1083 : decode cL_law 1083 = .ok (.iconst 2, 1) := dk_5 (dk_at dksL_law_37 10 rfl rfl)
theorem dL_law_1084 : decode cL_law 1084 = .ok (.iadd, 1) := dk_96 (dk_at dksL_law_37 11 rfl rfl)
theorem dL_law_1085 : decode cL_law 1085 = .ok (.iaload, 1) := dk_46 (dk_at dksL_law_37 12 rfl rfl)
theorem dL_law_1086 : decode cL_law 1086 = .ok (.invokevirtual 137, 3) := dk_182 0 137 (dk_at dksL_law_37 13 rfl rfl)
theorem dL_law_1089 : decode cL_law 1089 = .ok (.aload_n 2, 1) := dk_44 (dk_at dksL_law_37 16 rfl rfl)
theorem dL_law_1090 : decode cL_law 1090 = .ok (.aload_n 0, 1) := dk_42 (dk_at dksL_law_37 17 rfl rfl)
theorem dL_law_1091 : decode cL_law 1091 = .ok (.iload_n 3, 1) := dk_29 (dk_at dksL_law_37 18 rfl rfl)
theorem dL_law_1092 : decode cL_law 1092 = .ok (.iconst 1, 1) := dk_4 (dk_at dksL_law_37 19 rfl rfl)
theorem dL_law_1093 : decode cL_law 1093 = .ok (.iadd, 1) := dk_96 (dk_at dksL_law_37 20 rfl rfl)
theorem dL_law_1094 : decode cL_law 1094 = .ok (.iaload, 1) := dk_46 (dk_at dksL_law_37 21 rfl rfl)
theorem dL_law_1095 : decode cL_law 1095 = .ok (.aload_n 0, 1) := dk_42 (dk_at dksL_law_37 22 rfl rfl)
theorem dL_law_1096 : decode cL_law 1096 = .ok (.iload_n 3, 1) := dk_29 (dk_at dksL_law_37 23 rfl rfl)
theorem dL_law_1097 : decode cL_law 1097 = .ok (.iconst 2, 1) := dk_5 (dk_at dksL_law_38 0 rfl rfl)
theorem dL_law_1098 : decode cL_law 1098 = .ok (.iadd, 1) := dk_96 (dk_at dksL_law_38 1 rfl rfl)
theorem dL_law_1099 : decode cL_law 1099 = .ok (.iaload, 1) := dk_46 (dk_at dksL_law_38 2 rfl rfl)
theorem dL_law_1100 : decode cL_law 1100 = .ok (.invokevirtual 140, 3) := dk_182 0 140 (dk_at dksL_law_38 3 rfl rfl)
theorem dL_law_1103 : decode cL_law 1103 = .ok (.if_icmp .eq 740, 3) := dk_159 2 228 (dk_at dksL_law_38 6 rfl rfl)
theorem dL_law_1106 : decode cL_law 1106 = .ok (.iconst 0, 1) := dk_3 (dk_at dksL_law_38 9 rfl rfl)
theorem dL_law_1107 : decode cL_law 1107 = .ok (.ireturn, 1) := dk_172 (dk_at dksL_law_38 10 rfl rfl)
theorem dL_law_1108 : decode cL_law 1108 = .ok (.aload_n 1, 1) := dk_43 (dk_at dksL_law_38 11 rfl rfl)
theorem dL_law_1109 : decode cL_law 1109 = .ok (.aload_n 0, 1) := dk_42 (dk_at dksL_law_38 12 rfl rfl)
theorem dL_law_1110 : decode cL_law 1110 = .ok (.iload_n 3, 1) := dk_29 (dk_at dksL_law_38 13 rfl rfl)
theorem dL_law_1111 : decode cL_law 1111 = .ok (.iconst 1, 1) := dk_4 (dk_at dksL_law_38 14 rfl rfl)
theorem dL_law_1112 : decode cL_law 1112 = .ok (.iadd, 1) := dk_96 (dk_at dksL_law_38 15 rfl rfl)
theorem dL_law_1113 : decode cL_law 1113 = .ok (.iaload, 1) := dk_46 (dk_at dksL_law_38 16 rfl rfl)
theorem dL_law_1114 : decode cL_law 1114 = .ok (.invokevirtual 141, 3) := dk_182 0 141 (dk_at dksL_law_38 17 rfl rfl)
theorem dL_law_1117 : decode cL_law 1117 = .ok (.aload_n 2, 1) := dk_44 (dk_at dksL_law_38 20 rfl rfl)
theorem dL_law_1118 : decode cL_law 1118 = .ok (.aload_n 0, 1) := dk_42 (dk_at dksL_law_38 21 rfl rfl)
theorem dL_law_1119 : decode cL_law 1119 = .ok (.iload_n 3, 1) := dk_29 (dk_at dksL_law_38 22 rfl rfl)
theorem dL_law_1120 : decode cL_law 1120 = .ok (.iconst 1, 1) := dk_4 (dk_at dksL_law_38 23 rfl rfl)
theorem dL_law_1121 : decode cL_law 1121 = .ok (.iadd, 1) := dk_96 (dk_at dksL_law_39 0 rfl rfl)
theorem dL_law_1122 : decode cL_law 1122 = .ok (.iaload, 1) := dk_46 (dk_at dksL_law_39 1 rfl rfl)
theorem dL_law_1123 : decode cL_law 1123 = .ok (.invokevirtual 144, 3) := dk_182 0 144 (dk_at dksL_law_39 2 rfl rfl)
theorem dL_law_1126 : decode cL_law 1126 = .ok (.if_icmp .eq 717, 3) := dk_159 2 205 (dk_at dksL_law_39 5 rfl rfl)
theorem dL_law_1129 : decode cL_law 1129 = .ok (.iconst 0, 1) := dk_3 (dk_at dksL_law_39 8 rfl rfl)
theorem dL_law_1130 : decode cL_law 1130 = .ok (.ireturn, 1) := dk_172 (dk_at dksL_law_39 9 rfl rfl)
theorem dL_law_1131 : decode cL_law 1131 = .ok (.aload_n 1, 1) := dk_43 (dk_at dksL_law_39 10 rfl rfl)
theorem dL_law_1132 : decode cL_law 1132 = .ok (.aload_n 0, 1) := dk_42 (dk_at dksL_law_39 11 rfl rfl)
theorem dL_law_1133 : decode cL_law 1133 = .ok (.iload_n 3, 1) := dk_29 (dk_at dksL_law_39 12 rfl rfl)
theorem dL_law_1134 : decode cL_law 1134 = .ok (.iconst 1, 1) := dk_4 (dk_at dksL_law_39 13 rfl rfl)
theorem dL_law_1135 : decode cL_law 1135 = .ok (.iadd, 1) := dk_96 (dk_at dksL_law_39 14 rfl rfl)
theorem dL_law_1136 : decode cL_law 1136 = .ok (.iaload, 1) := dk_46 (dk_at dksL_law_39 15 rfl rfl)
theorem dL_law_1137 : decode cL_law 1137 = .ok (.invokevirtual 145, 3) := dk_182 0 145 (dk_at dksL_law_39 16 rfl rfl)
theorem dL_law_1140 : decode cL_law 1140 = .ok (.aload_n 2, 1) := dk_44 (dk_at dksL_law_39 19 rfl rfl)
theorem dL_law_1141 : decode cL_law 1141 = .ok (.aload_n 0, 1) := dk_42 (dk_at dksL_law_39 20 rfl rfl)
theorem dL_law_1142 : decode cL_law 1142 = .ok (.iload_n 3, 1) := dk_29 (dk_at dksL_law_39 21 rfl rfl)
theorem dL_law_1143 : decode cL_law 1143 = .ok (.iconst 1, 1) := dk_4 (dk_at dksL_law_39 22 rfl rfl)
theorem dL_law_1144 : decode cL_law 1144 = .ok (.iadd, 1) := dk_96 (dk_at dksL_law_39 23 rfl rfl)
theorem dL_law_1145 : decode cL_law 1145 = .ok (.iaload, 1) := dk_46 (dk_at dksL_law_40 0 rfl rfl)
theorem dL_law_1146 : decode cL_law 1146 = .ok (.invokevirtual 148, 3) := dk_182 0 148 (dk_at dksL_law_40 1 rfl rfl)
theorem dL_law_1149 : decode cL_law 1149 = .ok (.if_icmp .eq 694, 3) := dk_159 2 182 (dk_at dksL_law_40 4 rfl rfl)
theorem dL_law_1152 : decode cL_law 1152 = .ok (.iconst 0, 1) := dk_3 (dk_at dksL_law_40 7 rfl rfl)
theorem dL_law_1153 : decode cL_law 1153 = .ok (.ireturn, 1) := dk_172 (dk_at dksL_law_40 8 rfl rfl)
theorem dL_law_1154 : decode cL_law 1154 = .ok (.aload_n 1, 1) := dk_43 (dk_at dksL_law_40 9 rfl rfl)
theorem dL_law_1155 : decode cL_law 1155 = .ok (.aload_n 0, 1) := dk_42 (dk_at dksL_law_40 10 rfl rfl)
theorem dL_law_1156 : decode cL_law 1156 = .ok (.iload_n 3, 1) := dk_29 (dk_at dksL_law_40 11 rfl rfl)
theorem dL_law_1157 : decode cL_law 1157 = .ok (.iconst 1, 1) := dk_4 (dk_at dksL_law_40 12 rfl rfl)
theorem dL_law_1158 : decode cL_law 1158 = .ok (.iadd, 1) := dk_96 (dk_at dksL_law_40 13 rfl rfl)
theorem dL_law_1159 : decode cL_law 1159 = .ok (.iaload, 1) := dk_46 (dk_at dksL_law_40 14 rfl rfl)
theorem dL_law_1160 : decode cL_law 1160 = .ok (.aload_n 0, 1) := dk_42 (dk_at dksL_law_40 15 rfl rfl)
theorem dL_law_1161 : decode cL_law 1161 = .ok (.iload_n 3, 1) := dk_29 (dk_at dksL_law_40 16 rfl rfl)
theorem dL_law_1162 : decode cL_law 1162 = .ok (.iconst 2, 1) := dk_5 (dk_at dksL_law_40 17 rfl rfl)
theorem dL_law_1163 : decode cL_law 1163 = .ok (.iadd, 1) := dk_96 (dk_at dksL_law_40 18 rfl rfl)
theorem dL_law_1164 : decode cL_law 1164 = .ok (.iaload, 1) := dk_46 (dk_at dksL_law_40 19 rfl rfl)
theorem dL_law_1165 : decode cL_law 1165 = .ok (.aload_n 0, 1) := dk_42 (dk_at dksL_law_40 20 rfl rfl)
theorem dL_law_1166 : decode cL_law 1166 = .ok (.iload_n 3, 1) := dk_29 (dk_at dksL_law_40 21 rfl rfl)
theorem dL_law_1167 : decode cL_law 1167 = .ok (.iconst 3, 1) := dk_6 (dk_at dksL_law_40 22 rfl rfl)
theorem dL_law_1168 : decode cL_law 1168 = .ok (.iadd, 1) := dk_96 (dk_at dksL_law_40 23 rfl rfl)
theorem dL_law_1169 : decode cL_law 1169 = .ok (.iaload, 1) := dk_46 (dk_at dksL_law_41 0 rfl rfl)
theorem dL_law_1170 : decode cL_law 1170 = .ok (.aload_n 0, 1) := dk_42 (dk_at dksL_law_41 1 rfl rfl)
theorem dL_law_1171 : decode cL_law 1171 = .ok (.iload_n 3, 1) := dk_29 (dk_at dksL_law_41 2 rfl rfl)
theorem dL_law_1172 : decode cL_law 1172 = .ok (.iconst 4, 1) := dk_7 (dk_at dksL_law_41 3 rfl rfl)
theorem dL_law_1173 : decode cL_law 1173 = .ok (.iadd, 1) := dk_96 (dk_at dksL_law_41 4 rfl rfl)
theorem dL_law_1174 : decode cL_law 1174 = .ok (.iaload, 1) := dk_46 (dk_at dksL_law_41 5 rfl rfl)
theorem dL_law_1175 : decode cL_law 1175 = .ok (.invokevirtual 149, 3) := dk_182 0 149 (dk_at dksL_law_41 6 rfl rfl)
theorem dL_law_1178 : decode cL_law 1178 = .ok (.aload_n 2, 1) := dk_44 (dk_at dksL_law_41 9 rfl rfl)
theorem dL_law_1179 : decode cL_law 1179 = .ok (.aload_n 0, 1) := dk_42 (dk_at dksL_law_41 10 rfl rfl)
theorem dL_law_1180 : decode cL_law 1180 = .ok (.iload_n 3, 1) := dk_29 (dk_at dksL_law_41 11 rfl rfl)
theorem dL_law_1181 : decode cL_law 1181 = .ok (.iconst 1, 1) := dk_4 (dk_at dksL_law_41 12 rfl rfl)
theorem dL_law_1182 : decode cL_law 1182 = .ok (.iadd, 1) := dk_96 (dk_at dksL_law_41 13 rfl rfl)
theorem dL_law_1183 : decode cL_law 1183 = .ok (.iaload, 1) := dk_46 (dk_at dksL_law_41 14 rfl rfl)
theorem dL_law_1184 : decode cL_law 1184 = .ok (.aload_n 0, 1) := dk_42 (dk_at dksL_law_41 15 rfl rfl)
theorem dL_law_1185 : decode cL_law 1185 = .ok (.iload_n 3, 1) := dk_29 (dk_at dksL_law_41 16 rfl rfl)
theorem dL_law_1186 : decode cL_law 1186 = .ok (.iconst 2, 1) := dk_5 (dk_at dksL_law_41 17 rfl rfl)
theorem dL_law_1187 : decode cL_law 1187 = .ok (.iadd, 1) := dk_96 (dk_at dksL_law_41 18 rfl rfl)
theorem dL_law_1188 : decode cL_law 1188 = .ok (.iaload, 1) := dk_46 (dk_at dksL_law_41 19 rfl rfl)
theorem dL_law_1189 : decode cL_law 1189 = .ok (.aload_n 0, 1) := dk_42 (dk_at dksL_law_41 20 rfl rfl)
theorem dL_law_1190 : decode cL_law 1190 = .ok (.iload_n 3, 1) := dk_29 (dk_at dksL_law_41 21 rfl rfl)
theorem dL_law_1191 : decode cL_law 1191 = .ok (.iconst 3, 1) := dk_6 (dk_at dksL_law_41 22 rfl rfl)
theorem dL_law_1192 : decode cL_law 1192 = .ok (.iadd, 1) := dk_96 (dk_at dksL_law_41 23 rfl rfl)
theorem dL_law_1193 : decode cL_law 1193 = .ok (.iaload, 1) := dk_46 (dk_at dksL_law_42 0 rfl rfl)
theorem dL_law_1194 : decode cL_law 1194 = .ok (.aload_n 0, 1) := dk_42 (dk_at dksL_law_42 1 rfl rfl)
theorem dL_law_1195 : decode cL_law 1195 = .ok (.iload_n 3, 1) := dk_29 (dk_at dksL_law_42 2 rfl rfl)
theorem dL_law_1196 : decode cL_law 1196 = .ok (.iconst 4, 1) := dk_7 (dk_at dksL_law_42 3 rfl rfl)
theorem dL_law_1197 : decode cL_law 1197 = .ok (.iadd, 1) := dk_96 (dk_at dksL_law_42 4 rfl rfl)
theorem dL_law_1198 : decode cL_law 1198 = .ok (.iaload, 1) := dk_46 (dk_at dksL_law_42 5 rfl rfl)
theorem dL_law_1199 : decode cL_law 1199 = .ok (.invokevirtual 152, 3) := dk_182 0 152 (dk_at dksL_law_42 6 rfl rfl)
theorem dL_law_1202 : decode cL_law 1202 = .ok (.if_icmp .eq 641, 3) := dk_159 2 129 (dk_at dksL_law_42 9 rfl rfl)
theorem dL_law_1205 : decode cL_law 1205 = .ok (.iconst 0, 1) := dk_3 (dk_at dksL_law_42 12 rfl rfl)
theorem dL_law_1206 : decode cL_law 1206 = .ok (.ireturn, 1) := dk_172 (dk_at dksL_law_42 13 rfl rfl)
theorem dL_law_1207 : decode cL_law 1207 = .ok (.aload_n 1, 1) := dk_43 (dk_at dksL_law_42 14 rfl rfl)
theorem dL_law_1208 : decode cL_law 1208 = .ok (.invokevirtual 153, 3) := dk_182 0 153 (dk_at dksL_law_42 15 rfl rfl)
theorem dL_law_1211 : decode cL_law 1211 = .ok (.aload_n 2, 1) := dk_44 (dk_at dksL_law_42 18 rfl rfl)
theorem dL_law_1212 : decode cL_law 1212 = .ok (.invokevirtual 156, 3) := dk_182 0 156 (dk_at dksL_law_42 19 rfl rfl)
theorem dL_law_1215 : decode cL_law 1215 = .ok (.if_icmp .eq 628, 3) := dk_159 2 116 (dk_at dksL_law_43 0 rfl rfl)
theorem dL_law_1218 : decode cL_law 1218 = .ok (.iconst 0, 1) := dk_3 (dk_at dksL_law_43 3 rfl rfl)
theorem dL_law_1219 : decode cL_law 1219 = .ok (.ireturn, 1) := dk_172 (dk_at dksL_law_43 4 rfl rfl)
theorem dL_law_1220 : decode cL_law 1220 = .ok (.aload_n 1, 1) := dk_43 (dk_at dksL_law_43 5 rfl rfl)
theorem dL_law_1221 : decode cL_law 1221 = .ok (.aload_n 0, 1) := dk_42 (dk_at dksL_law_43 6 rfl rfl)
theorem dL_law_1222 : decode cL_law 1222 = .ok (.iload_n 3, 1) := dk_29 (dk_at dksL_law_43 7 rfl rfl)
theorem dL_law_1223 : decode cL_law 1223 = .ok (.iconst 1, 1) := dk_4 (dk_at dksL_law_43 8 rfl rfl)
theorem dL_law_1224 : decode cL_law 1224 = .ok (.iadd, 1) := dk_96 (dk_at dksL_law_43 9 rfl rfl)
theorem dL_law_1225 : decode cL_law 1225 = .ok (.iaload, 1) := dk_46 (dk_at dksL_law_43 10 rfl rfl)
theorem dL_law_1226 : decode cL_law 1226 = .ok (.invokevirtual 157, 3) := dk_182 0 157 (dk_at dksL_law_43 11 rfl rfl)
theorem dL_law_1229 : decode cL_law 1229 = .ok (.aload_n 2, 1) := dk_44 (dk_at dksL_law_43 14 rfl rfl)
theorem dL_law_1230 : decode cL_law 1230 = .ok (.aload_n 0, 1) := dk_42 (dk_at dksL_law_43 15 rfl rfl)
theorem dL_law_1231 : decode cL_law 1231 = .ok (.iload_n 3, 1) := dk_29 (dk_at dksL_law_43 16 rfl rfl)
theorem dL_law_1232 : decode cL_law 1232 = .ok (.iconst 1, 1) := dk_4 (dk_at dksL_law_43 17 rfl rfl)
theorem dL_law_1233 : decode cL_law 1233 = .ok (.iadd, 1) := dk_96 (dk_at dksL_law_43 18 rfl rfl)
theorem dL_law_1234 : decode cL_law 1234 = .ok (.iaload, 1) := dk_46 (dk_at dksL_law_43 19 rfl rfl)
theorem dL_law_1235 : decode cL_law 1235 = .ok (.invokevirtual 160, 3) := dk_182 0 160 (dk_at dksL_law_43 20 rfl rfl)
theorem dL_law_1238 : decode cL_law 1238 = .ok (.if_icmp .eq 605, 3) := dk_159 2 93 (dk_at dksL_law_44 0 rfl rfl)
theorem dL_law_1241 : decode cL_law 1241 = .ok (.iconst 0, 1) := dk_3 (dk_at dksL_law_44 3 rfl rfl)
theorem dL_law_1242 : decode cL_law 1242 = .ok (.ireturn, 1) := dk_172 (dk_at dksL_law_44 4 rfl rfl)
theorem dL_law_1243 : decode cL_law 1243 = .ok (.aload_n 1, 1) := dk_43 (dk_at dksL_law_44 5 rfl rfl)
theorem dL_law_1244 : decode cL_law 1244 = .ok (.invokevirtual 161, 3) := dk_182 0 161 (dk_at dksL_law_44 6 rfl rfl)
theorem dL_law_1247 : decode cL_law 1247 = .ok (.aload_n 2, 1) := dk_44 (dk_at dksL_law_44 9 rfl rfl)
theorem dL_law_1248 : decode cL_law 1248 = .ok (.invokevirtual 164, 3) := dk_182 0 164 (dk_at dksL_law_44 10 rfl rfl)
theorem dL_law_1251 : decode cL_law 1251 = .ok (.if_icmp .eq 592, 3) := dk_159 2 80 (dk_at dksL_law_44 13 rfl rfl)
theorem dL_law_1254 : decode cL_law 1254 = .ok (.iconst 0, 1) := dk_3 (dk_at dksL_law_44 16 rfl rfl)
theorem dL_law_1255 : decode cL_law 1255 = .ok (.ireturn, 1) := dk_172 (dk_at dksL_law_44 17 rfl rfl)
theorem dL_law_1256 : decode cL_law 1256 = .ok (.aload_n 1, 1) := dk_43 (dk_at dksL_law_44 18 rfl rfl)
theorem dL_law_1257 : decode cL_law 1257 = .ok (.aload_n 0, 1) := dk_42 (dk_at dksL_law_44 19 rfl rfl)
theorem dL_law_1258 : decode cL_law 1258 = .ok (.iload_n 3, 1) := dk_29 (dk_at dksL_law_44 20 rfl rfl)
theorem dL_law_1259 : decode cL_law 1259 = .ok (.iconst 1, 1) := dk_4 (dk_at dksL_law_44 21 rfl rfl)
theorem dL_law_1260 : decode cL_law 1260 = .ok (.iadd, 1) := dk_96 (dk_at dksL_law_44 22 rfl rfl)
theorem dL_law_1261 : decode cL_law 1261 = .ok (.iaload, 1) := dk_46 (dk_at dksL_law_44 23 rfl rfl)
theorem dL_law_1262 : decode cL_law 1262 = .ok (.invokevirtual 165, 3) := dk_182 0 165 (dk_at dksL_law_45 0 rfl rfl)
theorem dL_law_1265 : decode cL_law 1265 = .ok (.aload_n 2, 1) := dk_44 (dk_at dksL_law_45 3 rfl rfl)
theorem dL_law_1266 : decode cL_law 1266 = .ok (.aload_n 0, 1) := dk_42 (dk_at dksL_law_45 4 rfl rfl)
theorem dL_law_1267 : decode cL_law 1267 = .ok (.iload_n 3, 1) := dk_29 (dk_at dksL_law_45 5 rfl rfl)
theorem dL_law_1268 : decode cL_law 1268 = .ok (.iconst 1, 1) := dk_4 (dk_at dksL_law_45 6 rfl rfl)
theorem dL_law_1269 : decode cL_law 1269 = .ok (.iadd, 1) := dk_96 (dk_at dksL_law_45 7 rfl rfl)
theorem dL_law_1270 : decode cL_law 1270 = .ok (.iaload, 1) := dk_46 (dk_at dksL_law_45 8 rfl rfl)
theorem dL_law_1271 : decode cL_law 1271 = .ok (.invokevirtual 168, 3) := dk_182 0 168 (dk_at dksL_law_45 9 rfl rfl)
theorem dL_law_1274 : decode cL_law 1274 = .ok (.if_icmp .eq 569, 3) := dk_159 2 57 (dk_at dksL_law_45 12 rfl rfl)
theorem dL_law_1277 : decode cL_law 1277 = .ok (.iconst 0, 1) := dk_3 (dk_at dksL_law_45 15 rfl rfl)
theorem dL_law_1278 : decode cL_law 1278 = .ok (.ireturn, 1) := dk_172 (dk_at dksL_law_45 16 rfl rfl)
theorem dL_law_1279 : decode cL_law 1279 = .ok (.aload_n 1, 1) := dk_43 (dk_at dksL_law_45 17 rfl rfl)
theorem dL_law_1280 : decode cL_law 1280 = .ok (.invokevirtual 169, 3) := dk_182 0 169 (dk_at dksL_law_45 18 rfl rfl)
theorem dL_law_1283 : decode cL_law 1283 = .ok (.aload_n 2, 1) := dk_44 (dk_at dksL_law_45 21 rfl rfl)
theorem dL_law_1284 : decode cL_law 1284 = .ok (.invokevirtual 172, 3) := dk_182 0 172 (dk_at dksL_law_46 0 rfl rfl)
theorem dL_law_1287 : decode cL_law 1287 = .ok (.if_icmp .eq 556, 3) := dk_159 2 44 (dk_at dksL_law_46 3 rfl rfl)
theorem dL_law_1290 : decode cL_law 1290 = .ok (.iconst 0, 1) := dk_3 (dk_at dksL_law_46 6 rfl rfl)
theorem dL_law_1291 : decode cL_law 1291 = .ok (.ireturn, 1) := dk_172 (dk_at dksL_law_46 7 rfl rfl)
theorem dL_law_1292 : decode cL_law 1292 = .ok (.aload_n 1, 1) := dk_43 (dk_at dksL_law_46 8 rfl rfl)
theorem dL_law_1293 : decode cL_law 1293 = .ok (.aload_n 0, 1) := dk_42 (dk_at dksL_law_46 9 rfl rfl)
theorem dL_law_1294 : decode cL_law 1294 = .ok (.iload_n 3, 1) := dk_29 (dk_at dksL_law_46 10 rfl rfl)
theorem dL_law_1295 : decode cL_law 1295 = .ok (.iconst 1, 1) := dk_4 (dk_at dksL_law_46 11 rfl rfl)
theorem dL_law_1296 : decode cL_law 1296 = .ok (.iadd, 1) := dk_96 (dk_at dksL_law_46 12 rfl rfl)
theorem dL_law_1297 : decode cL_law 1297 = .ok (.iaload, 1) := dk_46 (dk_at dksL_law_46 13 rfl rfl)
theorem dL_law_1298 : decode cL_law 1298 = .ok (.aload_n 0, 1) := dk_42 (dk_at dksL_law_46 14 rfl rfl)
theorem dL_law_1299 : decode cL_law 1299 = .ok (.iload_n 3, 1) := dk_29 (dk_at dksL_law_46 15 rfl rfl)
theorem dL_law_1300 : decode cL_law 1300 = .ok (.iconst 2, 1) := dk_5 (dk_at dksL_law_46 16 rfl rfl)
theorem dL_law_1301 : decode cL_law 1301 = .ok (.iadd, 1) := dk_96 (dk_at dksL_law_46 17 rfl rfl)
theorem dL_law_1302 : decode cL_law 1302 = .ok (.iaload, 1) := dk_46 (dk_at dksL_law_46 18 rfl rfl)
theorem dL_law_1303 : decode cL_law 1303 = .ok (.invokevirtual 173, 3) := dk_182 0 173 (dk_at dksL_law_46 19 rfl rfl)
theorem dL_law_1306 : decode cL_law 1306 = .ok (.aload_n 2, 1) := dk_44 (dk_at dksL_law_46 22 rfl rfl)
theorem dL_law_1307 : decode cL_law 1307 = .ok (.aload_n 0, 1) := dk_42 (dk_at dksL_law_46 23 rfl rfl)
theorem dL_law_1308 : decode cL_law 1308 = .ok (.iload_n 3, 1) := dk_29 (dk_at dksL_law_47 0 rfl rfl)
theorem dL_law_1309 : decode cL_law 1309 = .ok (.iconst 1, 1) := dk_4 (dk_at dksL_law_47 1 rfl rfl)
theorem dL_law_1310 : decode cL_law 1310 = .ok (.iadd, 1) := dk_96 (dk_at dksL_law_47 2 rfl rfl)
theorem dL_law_1311 : decode cL_law 1311 = .ok (.iaload, 1) := dk_46 (dk_at dksL_law_47 3 rfl rfl)
theorem dL_law_1312 : decode cL_law 1312 = .ok (.aload_n 0, 1) := dk_42 (dk_at dksL_law_47 4 rfl rfl)
theorem dL_law_1313 : decode cL_law 1313 = .ok (.iload_n 3, 1) := dk_29 (dk_at dksL_law_47 5 rfl rfl)
theorem dL_law_1314 : decode cL_law 1314 = .ok (.iconst 2, 1) := dk_5 (dk_at dksL_law_47 6 rfl rfl)
theorem dL_law_1315 : decode cL_law 1315 = .ok (.iadd, 1) := dk_96 (dk_at dksL_law_47 7 rfl rfl)
theorem dL_law_1316 : decode cL_law 1316 = .ok (.iaload, 1) := dk_46 (dk_at dksL_law_47 8 rfl rfl)
theorem dL_law_1317 : decode cL_law 1317 = .ok (.invokevirtual 176, 3) := dk_182 0 176 (dk_at dksL_law_47 9 rfl rfl)
theorem dL_law_1320 : decode cL_law 1320 = .ok (.if_icmp .eq 523, 3) := dk_159 2 11 (dk_at dksL_law_47 12 rfl rfl)
theorem dL_law_1323 : decode cL_law 1323 = .ok (.iconst 0, 1) := dk_3 (dk_at dksL_law_47 15 rfl rfl)
theorem dL_law_1324 : decode cL_law 1324 = .ok (.ireturn, 1) := dk_172 (dk_at dksL_law_47 16 rfl rfl)
theorem dL_law_1325 : decode cL_law 1325 = .ok (.aload_n 1, 1) := dk_43 (dk_at dksL_law_47 17 rfl rfl)
theorem dL_law_1326 : decode cL_law 1326 = .ok (.aload_n 0, 1) := dk_42 (dk_at dksL_law_47 18 rfl rfl)
theorem dL_law_1327 : decode cL_law 1327 = .ok (.iload_n 3, 1) := dk_29 (dk_at dksL_law_47 19 rfl rfl)
theorem dL_law_1328 : decode cL_law 1328 = .ok (.iconst 1, 1) := dk_4 (dk_at dksL_law_47 20 rfl rfl)
theorem dL_law_1329 : decode cL_law 1329 = .ok (.iadd, 1) := dk_96 (dk_at dksL_law_47 21 rfl rfl)
theorem dL_law_1330 : decode cL_law 1330 = .ok (.iaload, 1) := dk_46 (dk_at dksL_law_47 22 rfl rfl)
theorem dL_law_1331 : decode cL_law 1331 = .ok (.invokevirtual 177, 3) := dk_182 0 177 (dk_at dksL_law_48 0 rfl rfl)
theorem dL_law_1334 : decode cL_law 1334 = .ok (.aload_n 2, 1) := dk_44 (dk_at dksL_law_48 3 rfl rfl)
theorem dL_law_1335 : decode cL_law 1335 = .ok (.aload_n 0, 1) := dk_42 (dk_at dksL_law_48 4 rfl rfl)
theorem dL_law_1336 : decode cL_law 1336 = .ok (.iload_n 3, 1) := dk_29 (dk_at dksL_law_48 5 rfl rfl)
theorem dL_law_1337 : decode cL_law 1337 = .ok (.iconst 1, 1) := dk_4 (dk_at dksL_law_48 6 rfl rfl)
theorem dL_law_1338 : decode cL_law 1338 = .ok (.iadd, 1) := dk_96 (dk_at dksL_law_48 7 rfl rfl)
theorem dL_law_1339 : decode cL_law 1339 = .ok (.iaload, 1) := dk_46 (dk_at dksL_law_48 8 rfl rfl)
theorem dL_law_1340 : decode cL_law 1340 = .ok (.invokevirtual 180, 3) := dk_182 0 180 (dk_at dksL_law_48 9 rfl rfl)
theorem dL_law_1343 : decode cL_law 1343 = .ok (.if_icmp .eq 500, 3) := dk_159 1 244 (dk_at dksL_law_48 12 rfl rfl)
theorem dL_law_1346 : decode cL_law 1346 = .ok (.iconst 0, 1) := dk_3 (dk_at dksL_law_48 15 rfl rfl)
theorem dL_law_1347 : decode cL_law 1347 = .ok (.ireturn, 1) := dk_172 (dk_at dksL_law_48 16 rfl rfl)
theorem dL_law_1348 : decode cL_law 1348 = .ok (.aload_n 1, 1) := dk_43 (dk_at dksL_law_48 17 rfl rfl)
theorem dL_law_1349 : decode cL_law 1349 = .ok (.aload_n 0, 1) := dk_42 (dk_at dksL_law_48 18 rfl rfl)
theorem dL_law_1350 : decode cL_law 1350 = .ok (.iload_n 3, 1) := dk_29 (dk_at dksL_law_48 19 rfl rfl)
theorem dL_law_1351 : decode cL_law 1351 = .ok (.iconst 1, 1) := dk_4 (dk_at dksL_law_48 20 rfl rfl)
theorem dL_law_1352 : decode cL_law 1352 = .ok (.iadd, 1) := dk_96 (dk_at dksL_law_48 21 rfl rfl)
theorem dL_law_1353 : decode cL_law 1353 = .ok (.iaload, 1) := dk_46 (dk_at dksL_law_48 22 rfl rfl)
theorem dL_law_1354 : decode cL_law 1354 = .ok (.aload_n 0, 1) := dk_42 (dk_at dksL_law_48 23 rfl rfl)
theorem dL_law_1355 : decode cL_law 1355 = .ok (.iload_n 3, 1) := dk_29 (dk_at dksL_law_49 0 rfl rfl)
theorem dL_law_1356 : decode cL_law 1356 = .ok (.iconst 2, 1) := dk_5 (dk_at dksL_law_49 1 rfl rfl)
theorem dL_law_1357 : decode cL_law 1357 = .ok (.iadd, 1) := dk_96 (dk_at dksL_law_49 2 rfl rfl)
theorem dL_law_1358 : decode cL_law 1358 = .ok (.iaload, 1) := dk_46 (dk_at dksL_law_49 3 rfl rfl)
theorem dL_law_1359 : decode cL_law 1359 = .ok (.invokevirtual 181, 3) := dk_182 0 181 (dk_at dksL_law_49 4 rfl rfl)
theorem dL_law_1362 : decode cL_law 1362 = .ok (.aload_n 2, 1) := dk_44 (dk_at dksL_law_49 7 rfl rfl)
theorem dL_law_1363 : decode cL_law 1363 = .ok (.aload_n 0, 1) := dk_42 (dk_at dksL_law_49 8 rfl rfl)
theorem dL_law_1364 : decode cL_law 1364 = .ok (.iload_n 3, 1) := dk_29 (dk_at dksL_law_49 9 rfl rfl)
theorem dL_law_1365 : decode cL_law 1365 = .ok (.iconst 1, 1) := dk_4 (dk_at dksL_law_49 10 rfl rfl)
theorem dL_law_1366 : decode cL_law 1366 = .ok (.iadd, 1) := dk_96 (dk_at dksL_law_49 11 rfl rfl)
theorem dL_law_1367 : decode cL_law 1367 = .ok (.iaload, 1) := dk_46 (dk_at dksL_law_49 12 rfl rfl)
theorem dL_law_1368 : decode cL_law 1368 = .ok (.aload_n 0, 1) := dk_42 (dk_at dksL_law_49 13 rfl rfl)
theorem dL_law_1369 : decode cL_law 1369 = .ok (.iload_n 3, 1) := dk_29 (dk_at dksL_law_49 14 rfl rfl)
theorem dL_law_1370 : decode cL_law 1370 = .ok (.iconst 2, 1) := dk_5 (dk_at dksL_law_49 15 rfl rfl)
theorem dL_law_1371 : decode cL_law 1371 = .ok (.iadd, 1) := dk_96 (dk_at dksL_law_49 16 rfl rfl)
theorem dL_law_1372 : decode cL_law 1372 = .ok (.iaload, 1) := dk_46 (dk_at dksL_law_49 17 rfl rfl)
theorem dL_law_1373 : decode cL_law 1373 = .ok (.invokevirtual 184, 3) := dk_182 0 184 (dk_at dksL_law_49 18 rfl rfl)
theorem dL_law_1376 : decode cL_law 1376 = .ok (.if_icmp .eq 467, 3) := dk_159 1 211 (dk_at dksL_law_49 21 rfl rfl)
theorem dL_law_1379 : decode cL_law 1379 = .ok (.iconst 0, 1) := dk_3 (dk_at dksL_law_50 0 rfl rfl)
theorem dL_law_1380 : decode cL_law 1380 = .ok (.ireturn, 1) := dk_172 (dk_at dksL_law_50 1 rfl rfl)
theorem dL_law_1381 : decode cL_law 1381 = .ok (.aload_n 1, 1) := dk_43 (dk_at dksL_law_50 2 rfl rfl)
theorem dL_law_1382 : decode cL_law 1382 = .ok (.aload_n 0, 1) := dk_42 (dk_at dksL_law_50 3 rfl rfl)
theorem dL_law_1383 : decode cL_law 1383 = .ok (.iload_n 3, 1) := dk_29 (dk_at dksL_law_50 4 rfl rfl)
theorem dL_law_1384 : decode cL_law 1384 = .ok (.iconst 1, 1) := dk_4 (dk_at dksL_law_50 5 rfl rfl)
theorem dL_law_1385 : decode cL_law 1385 = .ok (.iadd, 1) := dk_96 (dk_at dksL_law_50 6 rfl rfl)
theorem dL_law_1386 : decode cL_law 1386 = .ok (.iaload, 1) := dk_46 (dk_at dksL_law_50 7 rfl rfl)
theorem dL_law_1387 : decode cL_law 1387 = .ok (.aload_n 0, 1) := dk_42 (dk_at dksL_law_50 8 rfl rfl)
theorem dL_law_1388 : decode cL_law 1388 = .ok (.iload_n 3, 1) := dk_29 (dk_at dksL_law_50 9 rfl rfl)
theorem dL_law_1389 : decode cL_law 1389 = .ok (.iconst 2, 1) := dk_5 (dk_at dksL_law_50 10 rfl rfl)
theorem dL_law_1390 : decode cL_law 1390 = .ok (.iadd, 1) := dk_96 (dk_at dksL_law_50 11 rfl rfl)
theorem dL_law_1391 : decode cL_law 1391 = .ok (.iaload, 1) := dk_46 (dk_at dksL_law_50 12 rfl rfl)
theorem dL_law_1392 : decode cL_law 1392 = .ok (.aload_n 0, 1) := dk_42 (dk_at dksL_law_50 13 rfl rfl)
theorem dL_law_1393 : decode cL_law 1393 = .ok (.iload_n 3, 1) := dk_29 (dk_at dksL_law_50 14 rfl rfl)
theorem dL_law_1394 : decode cL_law 1394 = .ok (.iconst 3, 1) := dk_6 (dk_at dksL_law_50 15 rfl rfl)
theorem dL_law_1395 : decode cL_law 1395 = .ok (.iadd, 1) := dk_96 (dk_at dksL_law_50 16 rfl rfl)
theorem dL_law_1396 : decode cL_law 1396 = .ok (.iaload, 1) := dk_46 (dk_at dksL_law_50 17 rfl rfl)
theorem dL_law_1397 : decode cL_law 1397 = .ok (.invokevirtual 185, 3) := dk_182 0 185 (dk_at dksL_law_50 18 rfl rfl)
theorem dL_law_1400 : decode cL_law 1400 = .ok (.aload_n 2, 1) := dk_44 (dk_at dksL_law_50 21 rfl rfl)
theorem dL_law_1401 : decode cL_law 1401 = .ok (.aload_n 0, 1) := dk_42 (dk_at dksL_law_50 22 rfl rfl)
theorem dL_law_1402 : decode cL_law 1402 = .ok (.iload_n 3, 1) := dk_29 (dk_at dksL_law_50 23 rfl rfl)
theorem dL_law_1403 : decode cL_law 1403 = .ok (.iconst 1, 1) := dk_4 (dk_at dksL_law_51 0 rfl rfl)
theorem dL_law_1404 : decode cL_law 1404 = .ok (.iadd, 1) := dk_96 (dk_at dksL_law_51 1 rfl rfl)
theorem dL_law_1405 : decode cL_law 1405 = .ok (.iaload, 1) := dk_46 (dk_at dksL_law_51 2 rfl rfl)
theorem dL_law_1406 : decode cL_law 1406 = .ok (.aload_n 0, 1) := dk_42 (dk_at dksL_law_51 3 rfl rfl)
theorem dL_law_1407 : decode cL_law 1407 = .ok (.iload_n 3, 1) := dk_29 (dk_at dksL_law_51 4 rfl rfl)
theorem dL_law_1408 : decode cL_law 1408 = .ok (.iconst 2, 1) := dk_5 (dk_at dksL_law_51 5 rfl rfl)
theorem dL_law_1409 : decode cL_law 1409 = .ok (.iadd, 1) := dk_96 (dk_at dksL_law_51 6 rfl rfl)
theorem dL_law_1410 : decode cL_law 1410 = .ok (.iaload, 1) := dk_46 (dk_at dksL_law_51 7 rfl rfl)
theorem dL_law_1411 : decode cL_law 1411 = .ok (.aload_n 0, 1) := dk_42 (dk_at dksL_law_51 8 rfl rfl)
theorem dL_law_1412 : decode cL_law 1412 = .ok (.iload_n 3, 1) := dk_29 (dk_at dksL_law_51 9 rfl rfl)
theorem dL_law_1413 : decode cL_law 1413 = .ok (.iconst 3, 1) := dk_6 (dk_at dksL_law_51 10 rfl rfl)
theorem dL_law_1414 : decode cL_law 1414 = .ok (.iadd, 1) := dk_96 (dk_at dksL_law_51 11 rfl rfl)
theorem dL_law_1415 : decode cL_law 1415 = .ok (.iaload, 1) := dk_46 (dk_at dksL_law_51 12 rfl rfl)
theorem dL_law_1416 : decode cL_law 1416 = .ok (.invokevirtual 188, 3) := dk_182 0 188 (dk_at dksL_law_51 13 rfl rfl)
theorem dL_law_1419 : decode cL_law 1419 = .ok (.if_icmp .eq 424, 3) := dk_159 1 168 (dk_at dksL_law_51 16 rfl rfl)
theorem dL_law_1422 : decode cL_law 1422 = .ok (.iconst 0, 1) := dk_3 (dk_at dksL_law_51 19 rfl rfl)
theorem dL_law_1423 : decode cL_law 1423 = .ok (.ireturn, 1) := dk_172 (dk_at dksL_law_51 20 rfl rfl)
theorem dL_law_1424 : decode cL_law 1424 = .ok (.aload_n 1, 1) := dk_43 (dk_at dksL_law_51 21 rfl rfl)
theorem dL_law_1425 : decode cL_law 1425 = .ok (.invokevirtual 189, 3) := dk_182 0 189 (dk_at dksL_law_52 0 rfl rfl)
theorem dL_law_1428 : decode cL_law 1428 = .ok (.aload_n 2, 1) := dk_44 (dk_at dksL_law_52 3 rfl rfl)
theorem dL_law_1429 : decode cL_law 1429 = .ok (.invokevirtual 192, 3) := dk_182 0 192 (dk_at dksL_law_52 4 rfl rfl)
theorem dL_law_1432 : decode cL_law 1432 = .ok (.if_icmp .eq 411, 3) := dk_159 1 155 (dk_at dksL_law_52 7 rfl rfl)
theorem dL_law_1435 : decode cL_law 1435 = .ok (.iconst 0, 1) := dk_3 (dk_at dksL_law_52 10 rfl rfl)
theorem dL_law_1436 : decode cL_law 1436 = .ok (.ireturn, 1) := dk_172 (dk_at dksL_law_52 11 rfl rfl)
theorem dL_law_1437 : decode cL_law 1437 = .ok (.aload_n 1, 1) := dk_43 (dk_at dksL_law_52 12 rfl rfl)
theorem dL_law_1438 : decode cL_law 1438 = .ok (.aload_n 0, 1) := dk_42 (dk_at dksL_law_52 13 rfl rfl)
theorem dL_law_1439 : decode cL_law 1439 = .ok (.iload_n 3, 1) := dk_29 (dk_at dksL_law_52 14 rfl rfl)
theorem dL_law_1440 : decode cL_law 1440 = .ok (.iconst 1, 1) := dk_4 (dk_at dksL_law_52 15 rfl rfl)
theorem dL_law_1441 : decode cL_law 1441 = .ok (.iadd, 1) := dk_96 (dk_at dksL_law_52 16 rfl rfl)
theorem dL_law_1442 : decode cL_law 1442 = .ok (.iaload, 1) := dk_46 (dk_at dksL_law_52 17 rfl rfl)
theorem dL_law_1443 : decode cL_law 1443 = .ok (.aload_n 0, 1) := dk_42 (dk_at dksL_law_52 18 rfl rfl)
theorem dL_law_1444 : decode cL_law 1444 = .ok (.iload_n 3, 1) := dk_29 (dk_at dksL_law_52 19 rfl rfl)
theorem dL_law_1445 : decode cL_law 1445 = .ok (.iconst 2, 1) := dk_5 (dk_at dksL_law_52 20 rfl rfl)
theorem dL_law_1446 : decode cL_law 1446 = .ok (.iadd, 1) := dk_96 (dk_at dksL_law_52 21 rfl rfl)
theorem dL_law_1447 : decode cL_law 1447 = .ok (.iaload, 1) := dk_46 (dk_at dksL_law_52 22 rfl rfl)
theorem dL_law_1448 : decode cL_law 1448 = .ok (.aload_n 0, 1) := dk_42 (dk_at dksL_law_52 23 rfl rfl)
theorem dL_law_1449 : decode cL_law 1449 = .ok (.iload_n 3, 1) := dk_29 (dk_at dksL_law_53 0 rfl rfl)
theorem dL_law_1450 : decode cL_law 1450 = .ok (.iconst 3, 1) := dk_6 (dk_at dksL_law_53 1 rfl rfl)
theorem dL_law_1451 : decode cL_law 1451 = .ok (.iadd, 1) := dk_96 (dk_at dksL_law_53 2 rfl rfl)
theorem dL_law_1452 : decode cL_law 1452 = .ok (.iaload, 1) := dk_46 (dk_at dksL_law_53 3 rfl rfl)
theorem dL_law_1453 : decode cL_law 1453 = .ok (.invokevirtual 193, 3) := dk_182 0 193 (dk_at dksL_law_53 4 rfl rfl)
theorem dL_law_1456 : decode cL_law 1456 = .ok (.aload_n 2, 1) := dk_44 (dk_at dksL_law_53 7 rfl rfl)
theorem dL_law_1457 : decode cL_law 1457 = .ok (.aload_n 0, 1) := dk_42 (dk_at dksL_law_53 8 rfl rfl)
theorem dL_law_1458 : decode cL_law 1458 = .ok (.iload_n 3, 1) := dk_29 (dk_at dksL_law_53 9 rfl rfl)
theorem dL_law_1459 : decode cL_law 1459 = .ok (.iconst 1, 1) := dk_4 (dk_at dksL_law_53 10 rfl rfl)
theorem dL_law_1460 : decode cL_law 1460 = .ok (.iadd, 1) := dk_96 (dk_at dksL_law_53 11 rfl rfl)
theorem dL_law_1461 : decode cL_law 1461 = .ok (.iaload, 1) := dk_46 (dk_at dksL_law_53 12 rfl rfl)
theorem dL_law_1462 : decode cL_law 1462 = .ok (.aload_n 0, 1) := dk_42 (dk_at dksL_law_53 13 rfl rfl)
theorem dL_law_1463 : decode cL_law 1463 = .ok (.iload_n 3, 1) := dk_29 (dk_at dksL_law_53 14 rfl rfl)
theorem dL_law_1464 : decode cL_law 1464 = .ok (.iconst 2, 1) := dk_5 (dk_at dksL_law_53 15 rfl rfl)
theorem dL_law_1465 : decode cL_law 1465 = .ok (.iadd, 1) := dk_96 (dk_at dksL_law_53 16 rfl rfl)
theorem dL_law_1466 : decode cL_law 1466 = .ok (.iaload, 1) := dk_46 (dk_at dksL_law_53 17 rfl rfl)
theorem dL_law_1467 : decode cL_law 1467 = .ok (.aload_n 0, 1) := dk_42 (dk_at dksL_law_53 18 rfl rfl)
theorem dL_law_1468 : decode cL_law 1468 = .ok (.iload_n 3, 1) := dk_29 (dk_at dksL_law_53 19 rfl rfl)
theorem dL_law_1469 : decode cL_law 1469 = .ok (.iconst 3, 1) := dk_6 (dk_at dksL_law_53 20 rfl rfl)
theorem dL_law_1470 : decode cL_law 1470 = .ok (.iadd, 1) := dk_96 (dk_at dksL_law_53 21 rfl rfl)
theorem dL_law_1471 : decode cL_law 1471 = .ok (.iaload, 1) := dk_46 (dk_at dksL_law_53 22 rfl rfl)
theorem dL_law_1472 : decode cL_law 1472 = .ok (.invokevirtual 196, 3) := dk_182 0 196 (dk_at dksL_law_54 0 rfl rfl)
theorem dL_law_1475 : decode cL_law 1475 = .ok (.if_icmp .eq 368, 3) := dk_159 1 112 (dk_at dksL_law_54 3 rfl rfl)
theorem dL_law_1478 : decode cL_law 1478 = .ok (.iconst 0, 1) := dk_3 (dk_at dksL_law_54 6 rfl rfl)
theorem dL_law_1479 : decode cL_law 1479 = .ok (.ireturn, 1) := dk_172 (dk_at dksL_law_54 7 rfl rfl)
theorem dL_law_1480 : decode cL_law 1480 = .ok (.aload_n 1, 1) := dk_43 (dk_at dksL_law_54 8 rfl rfl)
theorem dL_law_1481 : decode cL_law 1481 = .ok (.aload_n 0, 1) := dk_42 (dk_at dksL_law_54 9 rfl rfl)
theorem dL_law_1482 : decode cL_law 1482 = .ok (.iload_n 3, 1) := dk_29 (dk_at dksL_law_54 10 rfl rfl)
theorem dL_law_1483 : decode cL_law 1483 = .ok (.iconst 1, 1) := dk_4 (dk_at dksL_law_54 11 rfl rfl)
theorem dL_law_1484 : decode cL_law 1484 = .ok (.iadd, 1) := dk_96 (dk_at dksL_law_54 12 rfl rfl)
theorem dL_law_1485 : decode cL_law 1485 = .ok (.iaload, 1) := dk_46 (dk_at dksL_law_54 13 rfl rfl)
theorem dL_law_1486 : decode cL_law 1486 = .ok (.aload_n 0, 1) := dk_42 (dk_at dksL_law_54 14 rfl rfl)
theorem dL_law_1487 : decode cL_law 1487 = .ok (.iload_n 3, 1) := dk_29 (dk_at dksL_law_54 15 rfl rfl)
theorem dL_law_1488 : decode cL_law 1488 = .ok (.iconst 2, 1) := dk_5 (dk_at dksL_law_54 16 rfl rfl)
theorem dL_law_1489 : decode cL_law 1489 = .ok (.iadd, 1) := dk_96 (dk_at dksL_law_54 17 rfl rfl)
theorem dL_law_1490 : decode cL_law 1490 = .ok (.iaload, 1) := dk_46 (dk_at dksL_law_54 18 rfl rfl)
theorem dL_law_1491 : decode cL_law 1491 = .ok (.aload_n 0, 1) := dk_42 (dk_at dksL_law_54 19 rfl rfl)
theorem dL_law_1492 : decode cL_law 1492 = .ok (.iload_n 3, 1) := dk_29 (dk_at dksL_law_54 20 rfl rfl)
theorem dL_law_1493 : decode cL_law 1493 = .ok (.iconst 3, 1) := dk_6 (dk_at dksL_law_54 21 rfl rfl)
theorem dL_law_1494 : decode cL_law 1494 = .ok (.iadd, 1) := dk_96 (dk_at dksL_law_54 22 rfl rfl)
theorem dL_law_1495 : decode cL_law 1495 = .ok (.iaload, 1) := dk_46 (dk_at dksL_law_54 23 rfl rfl)
theorem dL_law_1496 : decode cL_law 1496 = .ok (.invokevirtual 197, 3) := dk_182 0 197 (dk_at dksL_law_55 0 rfl rfl)
theorem dL_law_1499 : decode cL_law 1499 = .ok (.aload_n 2, 1) := dk_44 (dk_at dksL_law_55 3 rfl rfl)
theorem dL_law_1500 : decode cL_law 1500 = .ok (.aload_n 0, 1) := dk_42 (dk_at dksL_law_55 4 rfl rfl)
theorem dL_law_1501 : decode cL_law 1501 = .ok (.iload_n 3, 1) := dk_29 (dk_at dksL_law_55 5 rfl rfl)
theorem dL_law_1502 : decode cL_law 1502 = .ok (.iconst 1, 1) := dk_4 (dk_at dksL_law_55 6 rfl rfl)
theorem dL_law_1503 : decode cL_law 1503 = .ok (.iadd, 1) := dk_96 (dk_at dksL_law_55 7 rfl rfl)
theorem dL_law_1504 : decode cL_law 1504 = .ok (.iaload, 1) := dk_46 (dk_at dksL_law_55 8 rfl rfl)
theorem dL_law_1505 : decode cL_law 1505 = .ok (.aload_n 0, 1) := dk_42 (dk_at dksL_law_55 9 rfl rfl)
theorem dL_law_1506 : decode cL_law 1506 = .ok (.iload_n 3, 1) := dk_29 (dk_at dksL_law_55 10 rfl rfl)
theorem dL_law_1507 : decode cL_law 1507 = .ok (.iconst 2, 1) := dk_5 (dk_at dksL_law_55 11 rfl rfl)
theorem dL_law_1508 : decode cL_law 1508 = .ok (.iadd, 1) := dk_96 (dk_at dksL_law_55 12 rfl rfl)
theorem dL_law_1509 : decode cL_law 1509 = .ok (.iaload, 1) := dk_46 (dk_at dksL_law_55 13 rfl rfl)
theorem dL_law_1510 : decode cL_law 1510 = .ok (.aload_n 0, 1) := dk_42 (dk_at dksL_law_55 14 rfl rfl)
theorem dL_law_1511 : decode cL_law 1511 = .ok (.iload_n 3, 1) := dk_29 (dk_at dksL_law_55 15 rfl rfl)
theorem dL_law_1512 : decode cL_law 1512 = .ok (.iconst 3, 1) := dk_6 (dk_at dksL_law_55 16 rfl rfl)
theorem dL_law_1513 : decode cL_law 1513 = .ok (.iadd, 1) := dk_96 (dk_at dksL_law_55 17 rfl rfl)
theorem dL_law_1514 : decode cL_law 1514 = .ok (.iaload, 1) := dk_46 (dk_at dksL_law_55 18 rfl rfl)
theorem dL_law_1515 : decode cL_law 1515 = .ok (.invokevirtual 200, 3) := dk_182 0 200 (dk_at dksL_law_55 19 rfl rfl)
theorem dL_law_1518 : decode cL_law 1518 = .ok (.if_icmp .eq 325, 3) := dk_159 1 69 (dk_at dksL_law_56 0 rfl rfl)
theorem dL_law_1521 : decode cL_law 1521 = .ok (.iconst 0, 1) := dk_3 (dk_at dksL_law_56 3 rfl rfl)
theorem dL_law_1522 : decode cL_law 1522 = .ok (.ireturn, 1) := dk_172 (dk_at dksL_law_56 4 rfl rfl)
theorem dL_law_1523 : decode cL_law 1523 = .ok (.aload_n 1, 1) := dk_43 (dk_at dksL_law_56 5 rfl rfl)
theorem dL_law_1524 : decode cL_law 1524 = .ok (.aload_n 0, 1) := dk_42 (dk_at dksL_law_56 6 rfl rfl)
theorem dL_law_1525 : decode cL_law 1525 = .ok (.iload_n 3, 1) := dk_29 (dk_at dksL_law_56 7 rfl rfl)
theorem dL_law_1526 : decode cL_law 1526 = .ok (.iconst 1, 1) := dk_4 (dk_at dksL_law_56 8 rfl rfl)
theorem dL_law_1527 : decode cL_law 1527 = .ok (.iadd, 1) := dk_96 (dk_at dksL_law_56 9 rfl rfl)
theorem dL_law_1528 : decode cL_law 1528 = .ok (.iaload, 1) := dk_46 (dk_at dksL_law_56 10 rfl rfl)
theorem dL_law_1529 : decode cL_law 1529 = .ok (.aload_n 0, 1) := dk_42 (dk_at dksL_law_56 11 rfl rfl)
theorem dL_law_1530 : decode cL_law 1530 = .ok (.iload_n 3, 1) := dk_29 (dk_at dksL_law_56 12 rfl rfl)
theorem dL_law_1531 : decode cL_law 1531 = .ok (.iconst 2, 1) := dk_5 (dk_at dksL_law_56 13 rfl rfl)
theorem dL_law_1532 : decode cL_law 1532 = .ok (.iadd, 1) := dk_96 (dk_at dksL_law_56 14 rfl rfl)
theorem dL_law_1533 : decode cL_law 1533 = .ok (.iaload, 1) := dk_46 (dk_at dksL_law_56 15 rfl rfl)
theorem dL_law_1534 : decode cL_law 1534 = .ok (.aload_n 0, 1) := dk_42 (dk_at dksL_law_56 16 rfl rfl)
theorem dL_law_1535 : decode cL_law 1535 = .ok (.iload_n 3, 1) := dk_29 (dk_at dksL_law_56 17 rfl rfl)
theorem dL_law_1536 : decode cL_law 1536 = .ok (.iconst 3, 1) := dk_6 (dk_at dksL_law_56 18 rfl rfl)
theorem dL_law_1537 : decode cL_law 1537 = .ok (.iadd, 1) := dk_96 (dk_at dksL_law_56 19 rfl rfl)
theorem dL_law_1538 : decode cL_law 1538 = .ok (.iaload, 1) := dk_46 (dk_at dksL_law_56 20 rfl rfl)
theorem dL_law_1539 : decode cL_law 1539 = .ok (.invokevirtual 201, 3) := dk_182 0 201 (dk_at dksL_law_56 21 rfl rfl)
theorem dL_law_1542 : decode cL_law 1542 = .ok (.aload_n 2, 1) := dk_44 (dk_at dksL_law_57 0 rfl rfl)
theorem dL_law_1543 : decode cL_law 1543 = .ok (.aload_n 0, 1) := dk_42 (dk_at dksL_law_57 1 rfl rfl)
theorem dL_law_1544 : decode cL_law 1544 = .ok (.iload_n 3, 1) := dk_29 (dk_at dksL_law_57 2 rfl rfl)
theorem dL_law_1545 : decode cL_law 1545 = .ok (.iconst 1, 1) := dk_4 (dk_at dksL_law_57 3 rfl rfl)
theorem dL_law_1546 : decode cL_law 1546 = .ok (.iadd, 1) := dk_96 (dk_at dksL_law_57 4 rfl rfl)
theorem dL_law_1547 : decode cL_law 1547 = .ok (.iaload, 1) := dk_46 (dk_at dksL_law_57 5 rfl rfl)
theorem dL_law_1548 : decode cL_law 1548 = .ok (.aload_n 0, 1) := dk_42 (dk_at dksL_law_57 6 rfl rfl)
theorem dL_law_1549 : decode cL_law 1549 = .ok (.iload_n 3, 1) := dk_29 (dk_at dksL_law_57 7 rfl rfl)
theorem dL_law_1550 : decode cL_law 1550 = .ok (.iconst 2, 1) := dk_5 (dk_at dksL_law_57 8 rfl rfl)
theorem dL_law_1551 : decode cL_law 1551 = .ok (.iadd, 1) := dk_96 (dk_at dksL_law_57 9 rfl rfl)
theorem dL_law_1552 : decode cL_law 1552 = .ok (.iaload, 1) := dk_46 (dk_at dksL_law_57 10 rfl rfl)
theorem dL_law_1553 : decode cL_law 1553 = .ok (.aload_n 0, 1) := dk_42 (dk_at dksL_law_57 11 rfl rfl)
theorem dL_law_1554 : decode cL_law 1554 = .ok (.iload_n 3, 1) := dk_29 (dk_at dksL_law_57 12 rfl rfl)
theorem dL_law_1555 : decode cL_law 1555 = .ok (.iconst 3, 1) := dk_6 (dk_at dksL_law_57 13 rfl rfl)
theorem dL_law_1556 : decode cL_law 1556 = .ok (.iadd, 1) := dk_96 (dk_at dksL_law_57 14 rfl rfl)
theorem dL_law_1557 : decode cL_law 1557 = .ok (.iaload, 1) := dk_46 (dk_at dksL_law_57 15 rfl rfl)
theorem dL_law_1558 : decode cL_law 1558 = .ok (.invokevirtual 204, 3) := dk_182 0 204 (dk_at dksL_law_57 16 rfl rfl)
theorem dL_law_1561 : decode cL_law 1561 = .ok (.if_icmp .eq 282, 3) := dk_159 1 26 (dk_at dksL_law_57 19 rfl rfl)
theorem dL_law_1564 : decode cL_law 1564 = .ok (.iconst 0, 1) := dk_3 (dk_at dksL_law_57 22 rfl rfl)
theorem dL_law_1565 : decode cL_law 1565 = .ok (.ireturn, 1) := dk_172 (dk_at dksL_law_57 23 rfl rfl)
theorem dL_law_1566 : decode cL_law 1566 = .ok (.aload_n 1, 1) := dk_43 (dk_at dksL_law_58 0 rfl rfl)
theorem dL_law_1567 : decode cL_law 1567 = .ok (.aload_n 0, 1) := dk_42 (dk_at dksL_law_58 1 rfl rfl)
theorem dL_law_1568 : decode cL_law 1568 = .ok (.iload_n 3, 1) := dk_29 (dk_at dksL_law_58 2 rfl rfl)
theorem dL_law_1569 : decode cL_law 1569 = .ok (.iconst 1, 1) := dk_4 (dk_at dksL_law_58 3 rfl rfl)
theorem dL_law_1570 : decode cL_law 1570 = .ok (.iadd, 1) := dk_96 (dk_at dksL_law_58 4 rfl rfl)
theorem dL_law_1571 : decode cL_law 1571 = .ok (.iaload, 1) := dk_46 (dk_at dksL_law_58 5 rfl rfl)
theorem dL_law_1572 : decode cL_law 1572 = .ok (.aload_n 0, 1) := dk_42 (dk_at dksL_law_58 6 rfl rfl)
theorem dL_law_1573 : decode cL_law 1573 = .ok (.iload_n 3, 1) := dk_29 (dk_at dksL_law_58 7 rfl rfl)
theorem dL_law_1574 : decode cL_law 1574 = .ok (.iconst 2, 1) := dk_5 (dk_at dksL_law_58 8 rfl rfl)
theorem dL_law_1575 : decode cL_law 1575 = .ok (.iadd, 1) := dk_96 (dk_at dksL_law_58 9 rfl rfl)
theorem dL_law_1576 : decode cL_law 1576 = .ok (.iaload, 1) := dk_46 (dk_at dksL_law_58 10 rfl rfl)
theorem dL_law_1577 : decode cL_law 1577 = .ok (.aload_n 0, 1) := dk_42 (dk_at dksL_law_58 11 rfl rfl)
theorem dL_law_1578 : decode cL_law 1578 = .ok (.iload_n 3, 1) := dk_29 (dk_at dksL_law_58 12 rfl rfl)
theorem dL_law_1579 : decode cL_law 1579 = .ok (.iconst 3, 1) := dk_6 (dk_at dksL_law_58 13 rfl rfl)
theorem dL_law_1580 : decode cL_law 1580 = .ok (.iadd, 1) := dk_96 (dk_at dksL_law_58 14 rfl rfl)
theorem dL_law_1581 : decode cL_law 1581 = .ok (.iaload, 1) := dk_46 (dk_at dksL_law_58 15 rfl rfl)
theorem dL_law_1582 : decode cL_law 1582 = .ok (.invokevirtual 205, 3) := dk_182 0 205 (dk_at dksL_law_58 16 rfl rfl)
theorem dL_law_1585 : decode cL_law 1585 = .ok (.aload_n 2, 1) := dk_44 (dk_at dksL_law_58 19 rfl rfl)
theorem dL_law_1586 : decode cL_law 1586 = .ok (.aload_n 0, 1) := dk_42 (dk_at dksL_law_58 20 rfl rfl)
theorem dL_law_1587 : decode cL_law 1587 = .ok (.iload_n 3, 1) := dk_29 (dk_at dksL_law_58 21 rfl rfl)
theorem dL_law_1588 : decode cL_law 1588 = .ok (.iconst 1, 1) := dk_4 (dk_at dksL_law_58 22 rfl rfl)
theorem dL_law_1589 : decode cL_law 1589 = .ok (.iadd, 1) := dk_96 (dk_at dksL_law_58 23 rfl rfl)
theorem dL_law_1590 : decode cL_law 1590 = .ok (.iaload, 1) := dk_46 (dk_at dksL_law_59 0 rfl rfl)
theorem dL_law_1591 : decode cL_law 1591 = .ok (.aload_n 0, 1) := dk_42 (dk_at dksL_law_59 1 rfl rfl)
theorem dL_law_1592 : decode cL_law 1592 = .ok (.iload_n 3, 1) := dk_29 (dk_at dksL_law_59 2 rfl rfl)
theorem dL_law_1593 : decode cL_law 1593 = .ok (.iconst 2, 1) := dk_5 (dk_at dksL_law_59 3 rfl rfl)
theorem dL_law_1594 : decode cL_law 1594 = .ok (.iadd, 1) := dk_96 (dk_at dksL_law_59 4 rfl rfl)
theorem dL_law_1595 : decode cL_law 1595 = .ok (.iaload, 1) := dk_46 (dk_at dksL_law_59 5 rfl rfl)
theorem dL_law_1596 : decode cL_law 1596 = .ok (.aload_n 0, 1) := dk_42 (dk_at dksL_law_59 6 rfl rfl)
theorem dL_law_1597 : decode cL_law 1597 = .ok (.iload_n 3, 1) := dk_29 (dk_at dksL_law_59 7 rfl rfl)
theorem dL_law_1598 : decode cL_law 1598 = .ok (.iconst 3, 1) := dk_6 (dk_at dksL_law_59 8 rfl rfl)
theorem dL_law_1599 : decode cL_law 1599 = .ok (.iadd, 1) := dk_96 (dk_at dksL_law_59 9 rfl rfl)
theorem dL_law_1600 : decode cL_law 1600 = .ok (.iaload, 1) := dk_46 (dk_at dksL_law_59 10 rfl rfl)
theorem dL_law_1601 : decode cL_law 1601 = .ok (.invokevirtual 208, 3) := dk_182 0 208 (dk_at dksL_law_59 11 rfl rfl)
theorem dL_law_1604 : decode cL_law 1604 = .ok (.if_icmp .eq 239, 3) := dk_159 0 239 (dk_at dksL_law_59 14 rfl rfl)
theorem dL_law_1607 : decode cL_law 1607 = .ok (.iconst 0, 1) := dk_3 (dk_at dksL_law_59 17 rfl rfl)
theorem dL_law_1608 : decode cL_law 1608 = .ok (.ireturn, 1) := dk_172 (dk_at dksL_law_59 18 rfl rfl)
theorem dL_law_1609 : decode cL_law 1609 = .ok (.aload_n 1, 1) := dk_43 (dk_at dksL_law_59 19 rfl rfl)
theorem dL_law_1610 : decode cL_law 1610 = .ok (.aload_n 0, 1) := dk_42 (dk_at dksL_law_59 20 rfl rfl)
theorem dL_law_1611 : decode cL_law 1611 = .ok (.iload_n 3, 1) := dk_29 (dk_at dksL_law_59 21 rfl rfl)
theorem dL_law_1612 : decode cL_law 1612 = .ok (.iconst 1, 1) := dk_4 (dk_at dksL_law_59 22 rfl rfl)
theorem dL_law_1613 : decode cL_law 1613 = .ok (.iadd, 1) := dk_96 (dk_at dksL_law_59 23 rfl rfl)
theorem dL_law_1614 : decode cL_law 1614 = .ok (.iaload, 1) := dk_46 (dk_at dksL_law_60 0 rfl rfl)
theorem dL_law_1615 : decode cL_law 1615 = .ok (.aload_n 0, 1) := dk_42 (dk_at dksL_law_60 1 rfl rfl)
theorem dL_law_1616 : decode cL_law 1616 = .ok (.iload_n 3, 1) := dk_29 (dk_at dksL_law_60 2 rfl rfl)
theorem dL_law_1617 : decode cL_law 1617 = .ok (.iconst 2, 1) := dk_5 (dk_at dksL_law_60 3 rfl rfl)
theorem dL_law_1618 : decode cL_law 1618 = .ok (.iadd, 1) := dk_96 (dk_at dksL_law_60 4 rfl rfl)
theorem dL_law_1619 : decode cL_law 1619 = .ok (.iaload, 1) := dk_46 (dk_at dksL_law_60 5 rfl rfl)
theorem dL_law_1620 : decode cL_law 1620 = .ok (.aload_n 0, 1) := dk_42 (dk_at dksL_law_60 6 rfl rfl)
theorem dL_law_1621 : decode cL_law 1621 = .ok (.iload_n 3, 1) := dk_29 (dk_at dksL_law_60 7 rfl rfl)
theorem dL_law_1622 : decode cL_law 1622 = .ok (.iconst 3, 1) := dk_6 (dk_at dksL_law_60 8 rfl rfl)
theorem dL_law_1623 : decode cL_law 1623 = .ok (.iadd, 1) := dk_96 (dk_at dksL_law_60 9 rfl rfl)
theorem dL_law_1624 : decode cL_law 1624 = .ok (.iaload, 1) := dk_46 (dk_at dksL_law_60 10 rfl rfl)
theorem dL_law_1625 : decode cL_law 1625 = .ok (.invokevirtual 209, 3) := dk_182 0 209 (dk_at dksL_law_60 11 rfl rfl)
theorem dL_law_1628 : decode cL_law 1628 = .ok (.aload_n 2, 1) := dk_44 (dk_at dksL_law_60 14 rfl rfl)
theorem dL_law_1629 : decode cL_law 1629 = .ok (.aload_n 0, 1) := dk_42 (dk_at dksL_law_60 15 rfl rfl)
theorem dL_law_1630 : decode cL_law 1630 = .ok (.iload_n 3, 1) := dk_29 (dk_at dksL_law_60 16 rfl rfl)
theorem dL_law_1631 : decode cL_law 1631 = .ok (.iconst 1, 1) := dk_4 (dk_at dksL_law_60 17 rfl rfl)
theorem dL_law_1632 : decode cL_law 1632 = .ok (.iadd, 1) := dk_96 (dk_at dksL_law_60 18 rfl rfl)
theorem dL_law_1633 : decode cL_law 1633 = .ok (.iaload, 1) := dk_46 (dk_at dksL_law_60 19 rfl rfl)
theorem dL_law_1634 : decode cL_law 1634 = .ok (.aload_n 0, 1) := dk_42 (dk_at dksL_law_60 20 rfl rfl)
theorem dL_law_1635 : decode cL_law 1635 = .ok (.iload_n 3, 1) := dk_29 (dk_at dksL_law_60 21 rfl rfl)
theorem dL_law_1636 : decode cL_law 1636 = .ok (.iconst 2, 1) := dk_5 (dk_at dksL_law_60 22 rfl rfl)
theorem dL_law_1637 : decode cL_law 1637 = .ok (.iadd, 1) := dk_96 (dk_at dksL_law_60 23 rfl rfl)
theorem dL_law_1638 : decode cL_law 1638 = .ok (.iaload, 1) := dk_46 (dk_at dksL_law_61 0 rfl rfl)
theorem dL_law_1639 : decode cL_law 1639 = .ok (.aload_n 0, 1) := dk_42 (dk_at dksL_law_61 1 rfl rfl)
theorem dL_law_1640 : decode cL_law 1640 = .ok (.iload_n 3, 1) := dk_29 (dk_at dksL_law_61 2 rfl rfl)
theorem dL_law_1641 : decode cL_law 1641 = .ok (.iconst 3, 1) := dk_6 (dk_at dksL_law_61 3 rfl rfl)
theorem dL_law_1642 : decode cL_law 1642 = .ok (.iadd, 1) := dk_96 (dk_at dksL_law_61 4 rfl rfl)
theorem dL_law_1643 : decode cL_law 1643 = .ok (.iaload, 1) := dk_46 (dk_at dksL_law_61 5 rfl rfl)
theorem dL_law_1644 : decode cL_law 1644 = .ok (.invokevirtual 212, 3) := dk_182 0 212 (dk_at dksL_law_61 6 rfl rfl)
theorem dL_law_1647 : decode cL_law 1647 = .ok (.if_icmp .eq 196, 3) := dk_159 0 196 (dk_at dksL_law_61 9 rfl rfl)
theorem dL_law_1650 : decode cL_law 1650 = .ok (.iconst 0, 1) := dk_3 (dk_at dksL_law_61 12 rfl rfl)
theorem dL_law_1651 : decode cL_law 1651 = .ok (.ireturn, 1) := dk_172 (dk_at dksL_law_61 13 rfl rfl)
theorem dL_law_1652 : decode cL_law 1652 = .ok (.aload_n 1, 1) := dk_43 (dk_at dksL_law_61 14 rfl rfl)
theorem dL_law_1653 : decode cL_law 1653 = .ok (.aload_n 0, 1) := dk_42 (dk_at dksL_law_61 15 rfl rfl)
theorem dL_law_1654 : decode cL_law 1654 = .ok (.iload_n 3, 1) := dk_29 (dk_at dksL_law_61 16 rfl rfl)
theorem dL_law_1655 : decode cL_law 1655 = .ok (.iconst 1, 1) := dk_4 (dk_at dksL_law_61 17 rfl rfl)
theorem dL_law_1656 : decode cL_law 1656 = .ok (.iadd, 1) := dk_96 (dk_at dksL_law_61 18 rfl rfl)
theorem dL_law_1657 : decode cL_law 1657 = .ok (.iaload, 1) := dk_46 (dk_at dksL_law_61 19 rfl rfl)
theorem dL_law_1658 : decode cL_law 1658 = .ok (.aload_n 0, 1) := dk_42 (dk_at dksL_law_61 20 rfl rfl)
theorem dL_law_1659 : decode cL_law 1659 = .ok (.iload_n 3, 1) := dk_29 (dk_at dksL_law_61 21 rfl rfl)
theorem dL_law_1660 : decode cL_law 1660 = .ok (.iconst 2, 1) := dk_5 (dk_at dksL_law_61 22 rfl rfl)
theorem dL_law_1661 : decode cL_law 1661 = .ok (.iadd, 1) := dk_96 (dk_at dksL_law_61 23 rfl rfl)
theorem dL_law_1662 : decode cL_law 1662 = .ok (.iaload, 1) := dk_46 (dk_at dksL_law_62 0 rfl rfl)
theorem dL_law_1663 : decode cL_law 1663 = .ok (.aload_n 0, 1) := dk_42 (dk_at dksL_law_62 1 rfl rfl)
theorem dL_law_1664 : decode cL_law 1664 = .ok (.iload_n 3, 1) := dk_29 (dk_at dksL_law_62 2 rfl rfl)
theorem dL_law_1665 : decode cL_law 1665 = .ok (.iconst 3, 1) := dk_6 (dk_at dksL_law_62 3 rfl rfl)
theorem dL_law_1666 : decode cL_law 1666 = .ok (.iadd, 1) := dk_96 (dk_at dksL_law_62 4 rfl rfl)
theorem dL_law_1667 : decode cL_law 1667 = .ok (.iaload, 1) := dk_46 (dk_at dksL_law_62 5 rfl rfl)
theorem dL_law_1668 : decode cL_law 1668 = .ok (.invokevirtual 213, 3) := dk_182 0 213 (dk_at dksL_law_62 6 rfl rfl)
theorem dL_law_1671 : decode cL_law 1671 = .ok (.aload_n 2, 1) := dk_44 (dk_at dksL_law_62 9 rfl rfl)
theorem dL_law_1672 : decode cL_law 1672 = .ok (.aload_n 0, 1) := dk_42 (dk_at dksL_law_62 10 rfl rfl)
theorem dL_law_1673 : decode cL_law 1673 = .ok (.iload_n 3, 1) := dk_29 (dk_at dksL_law_62 11 rfl rfl)
theorem dL_law_1674 : decode cL_law 1674 = .ok (.iconst 1, 1) := dk_4 (dk_at dksL_law_62 12 rfl rfl)
theorem dL_law_1675 : decode cL_law 1675 = .ok (.iadd, 1) := dk_96 (dk_at dksL_law_62 13 rfl rfl)
theorem dL_law_1676 : decode cL_law 1676 = .ok (.iaload, 1) := dk_46 (dk_at dksL_law_62 14 rfl rfl)
theorem dL_law_1677 : decode cL_law 1677 = .ok (.aload_n 0, 1) := dk_42 (dk_at dksL_law_62 15 rfl rfl)
theorem dL_law_1678 : decode cL_law 1678 = .ok (.iload_n 3, 1) := dk_29 (dk_at dksL_law_62 16 rfl rfl)
theorem dL_law_1679 : decode cL_law 1679 = .ok (.iconst 2, 1) := dk_5 (dk_at dksL_law_62 17 rfl rfl)
theorem dL_law_1680 : decode cL_law 1680 = .ok (.iadd, 1) := dk_96 (dk_at dksL_law_62 18 rfl rfl)
theorem dL_law_1681 : decode cL_law 1681 = .ok (.iaload, 1) := dk_46 (dk_at dksL_law_62 19 rfl rfl)
theorem dL_law_1682 : decode cL_law 1682 = .ok (.aload_n 0, 1) := dk_42 (dk_at dksL_law_62 20 rfl rfl)
theorem dL_law_1683 : decode cL_law 1683 = .ok (.iload_n 3, 1) := dk_29 (dk_at dksL_law_62 21 rfl rfl)
theorem dL_law_1684 : decode cL_law 1684 = .ok (.iconst 3, 1) := dk_6 (dk_at dksL_law_62 22 rfl rfl)
theorem dL_law_1685 : decode cL_law 1685 = .ok (.iadd, 1) := dk_96 (dk_at dksL_law_62 23 rfl rfl)
theorem dL_law_1686 : decode cL_law 1686 = .ok (.iaload, 1) := dk_46 (dk_at dksL_law_63 0 rfl rfl)
theorem dL_law_1687 : decode cL_law 1687 = .ok (.invokevirtual 216, 3) := dk_182 0 216 (dk_at dksL_law_63 1 rfl rfl)
theorem dL_law_1690 : decode cL_law 1690 = .ok (.if_icmp .eq 153, 3) := dk_159 0 153 (dk_at dksL_law_63 4 rfl rfl)
theorem dL_law_1693 : decode cL_law 1693 = .ok (.iconst 0, 1) := dk_3 (dk_at dksL_law_63 7 rfl rfl)
theorem dL_law_1694 : decode cL_law 1694 = .ok (.ireturn, 1) := dk_172 (dk_at dksL_law_63 8 rfl rfl)
theorem dL_law_1695 : decode cL_law 1695 = .ok (.aload_n 1, 1) := dk_43 (dk_at dksL_law_63 9 rfl rfl)
theorem dL_law_1696 : decode cL_law 1696 = .ok (.aload_n 0, 1) := dk_42 (dk_at dksL_law_63 10 rfl rfl)
theorem dL_law_1697 : decode cL_law 1697 = .ok (.iload_n 3, 1) := dk_29 (dk_at dksL_law_63 11 rfl rfl)
theorem dL_law_1698 : decode cL_law 1698 = .ok (.iconst 1, 1) := dk_4 (dk_at dksL_law_63 12 rfl rfl)
theorem dL_law_1699 : decode cL_law 1699 = .ok (.iadd, 1) := dk_96 (dk_at dksL_law_63 13 rfl rfl)
theorem dL_law_1700 : decode cL_law 1700 = .ok (.iaload, 1) := dk_46 (dk_at dksL_law_63 14 rfl rfl)
theorem dL_law_1701 : decode cL_law 1701 = .ok (.aload_n 0, 1) := dk_42 (dk_at dksL_law_63 15 rfl rfl)
theorem dL_law_1702 : decode cL_law 1702 = .ok (.iload_n 3, 1) := dk_29 (dk_at dksL_law_63 16 rfl rfl)
theorem dL_law_1703 : decode cL_law 1703 = .ok (.iconst 2, 1) := dk_5 (dk_at dksL_law_63 17 rfl rfl)
theorem dL_law_1704 : decode cL_law 1704 = .ok (.iadd, 1) := dk_96 (dk_at dksL_law_63 18 rfl rfl)
theorem dL_law_1705 : decode cL_law 1705 = .ok (.iaload, 1) := dk_46 (dk_at dksL_law_63 19 rfl rfl)
theorem dL_law_1706 : decode cL_law 1706 = .ok (.invokevirtual 217, 3) := dk_182 0 217 (dk_at dksL_law_63 20 rfl rfl)
theorem dL_law_1709 : decode cL_law 1709 = .ok (.aload_n 2, 1) := dk_44 (dk_at dksL_law_63 23 rfl rfl)
theorem dL_law_1710 : decode cL_law 1710 = .ok (.aload_n 0, 1) := dk_42 (dk_at dksL_law_64 0 rfl rfl)
theorem dL_law_1711 : decode cL_law 1711 = .ok (.iload_n 3, 1) := dk_29 (dk_at dksL_law_64 1 rfl rfl)
theorem dL_law_1712 : decode cL_law 1712 = .ok (.iconst 1, 1) := dk_4 (dk_at dksL_law_64 2 rfl rfl)
theorem dL_law_1713 : decode cL_law 1713 = .ok (.iadd, 1) := dk_96 (dk_at dksL_law_64 3 rfl rfl)
theorem dL_law_1714 : decode cL_law 1714 = .ok (.iaload, 1) := dk_46 (dk_at dksL_law_64 4 rfl rfl)
theorem dL_law_1715 : decode cL_law 1715 = .ok (.aload_n 0, 1) := dk_42 (dk_at dksL_law_64 5 rfl rfl)
theorem dL_law_1716 : decode cL_law 1716 = .ok (.iload_n 3, 1) := dk_29 (dk_at dksL_law_64 6 rfl rfl)
theorem dL_law_1717 : decode cL_law 1717 = .ok (.iconst 2, 1) := dk_5 (dk_at dksL_law_64 7 rfl rfl)
theorem dL_law_1718 : decode cL_law 1718 = .ok (.iadd, 1) := dk_96 (dk_at dksL_law_64 8 rfl rfl)
theorem dL_law_1719 : decode cL_law 1719 = .ok (.iaload, 1) := dk_46 (dk_at dksL_law_64 9 rfl rfl)
theorem dL_law_1720 : decode cL_law 1720 = .ok (.invokevirtual 220, 3) := dk_182 0 220 (dk_at dksL_law_64 10 rfl rfl)
theorem dL_law_1723 : decode cL_law 1723 = .ok (.if_icmp .eq 120, 3) := dk_159 0 120 (dk_at dksL_law_64 13 rfl rfl)
theorem dL_law_1726 : decode cL_law 1726 = .ok (.iconst 0, 1) := dk_3 (dk_at dksL_law_64 16 rfl rfl)
theorem dL_law_1727 : decode cL_law 1727 = .ok (.ireturn, 1) := dk_172 (dk_at dksL_law_64 17 rfl rfl)
theorem dL_law_1728 : decode cL_law 1728 = .ok (.aload_n 1, 1) := dk_43 (dk_at dksL_law_64 18 rfl rfl)
theorem dL_law_1729 : decode cL_law 1729 = .ok (.aload_n 0, 1) := dk_42 (dk_at dksL_law_64 19 rfl rfl)
theorem dL_law_1730 : decode cL_law 1730 = .ok (.iload_n 3, 1) := dk_29 (dk_at dksL_law_64 20 rfl rfl)
theorem dL_law_1731 : decode cL_law 1731 = .ok (.iconst 1, 1) := dk_4 (dk_at dksL_law_64 21 rfl rfl)
theorem dL_law_1732 : decode cL_law 1732 = .ok (.iadd, 1) := dk_96 (dk_at dksL_law_64 22 rfl rfl)
theorem dL_law_1733 : decode cL_law 1733 = .ok (.iaload, 1) := dk_46 (dk_at dksL_law_64 23 rfl rfl)
theorem dL_law_1734 : decode cL_law 1734 = .ok (.aload_n 0, 1) := dk_42 (dk_at dksL_law_65 0 rfl rfl)
theorem dL_law_1735 : decode cL_law 1735 = .ok (.iload_n 3, 1) := dk_29 (dk_at dksL_law_65 1 rfl rfl)
theorem dL_law_1736 : decode cL_law 1736 = .ok (.iconst 2, 1) := dk_5 (dk_at dksL_law_65 2 rfl rfl)
theorem dL_law_1737 : decode cL_law 1737 = .ok (.iadd, 1) := dk_96 (dk_at dksL_law_65 3 rfl rfl)
theorem dL_law_1738 : decode cL_law 1738 = .ok (.iaload, 1) := dk_46 (dk_at dksL_law_65 4 rfl rfl)
theorem dL_law_1739 : decode cL_law 1739 = .ok (.aload_n 0, 1) := dk_42 (dk_at dksL_law_65 5 rfl rfl)
theorem dL_law_1740 : decode cL_law 1740 = .ok (.iload_n 3, 1) := dk_29 (dk_at dksL_law_65 6 rfl rfl)
theorem dL_law_1741 : decode cL_law 1741 = .ok (.iconst 3, 1) := dk_6 (dk_at dksL_law_65 7 rfl rfl)
theorem dL_law_1742 : decode cL_law 1742 = .ok (.iadd, 1) := dk_96 (dk_at dksL_law_65 8 rfl rfl)
theorem dL_law_1743 : decode cL_law 1743 = .ok (.iaload, 1) := dk_46 (dk_at dksL_law_65 9 rfl rfl)
theorem dL_law_1744 : decode cL_law 1744 = .ok (.invokevirtual 221, 3) := dk_182 0 221 (dk_at dksL_law_65 10 rfl rfl)
theorem dL_law_1747 : decode cL_law 1747 = .ok (.aload_n 2, 1) := dk_44 (dk_at dksL_law_65 13 rfl rfl)
theorem dL_law_1748 : decode cL_law 1748 = .ok (.aload_n 0, 1) := dk_42 (dk_at dksL_law_65 14 rfl rfl)
theorem dL_law_1749 : decode cL_law 1749 = .ok (.iload_n 3, 1) := dk_29 (dk_at dksL_law_65 15 rfl rfl)
theorem dL_law_1750 : decode cL_law 1750 = .ok (.iconst 1, 1) := dk_4 (dk_at dksL_law_65 16 rfl rfl)
theorem dL_law_1751 : decode cL_law 1751 = .ok (.iadd, 1) := dk_96 (dk_at dksL_law_65 17 rfl rfl)
theorem dL_law_1752 : decode cL_law 1752 = .ok (.iaload, 1) := dk_46 (dk_at dksL_law_65 18 rfl rfl)
theorem dL_law_1753 : decode cL_law 1753 = .ok (.aload_n 0, 1) := dk_42 (dk_at dksL_law_65 19 rfl rfl)
theorem dL_law_1754 : decode cL_law 1754 = .ok (.iload_n 3, 1) := dk_29 (dk_at dksL_law_65 20 rfl rfl)
theorem dL_law_1755 : decode cL_law 1755 = .ok (.iconst 2, 1) := dk_5 (dk_at dksL_law_65 21 rfl rfl)
theorem dL_law_1756 : decode cL_law 1756 = .ok (.iadd, 1) := dk_96 (dk_at dksL_law_65 22 rfl rfl)
theorem dL_law_1757 : decode cL_law 1757 = .ok (.iaload, 1) := dk_46 (dk_at dksL_law_65 23 rfl rfl)
theorem dL_law_1758 : decode cL_law 1758 = .ok (.aload_n 0, 1) := dk_42 (dk_at dksL_law_66 0 rfl rfl)
theorem dL_law_1759 : decode cL_law 1759 = .ok (.iload_n 3, 1) := dk_29 (dk_at dksL_law_66 1 rfl rfl)
theorem dL_law_1760 : decode cL_law 1760 = .ok (.iconst 3, 1) := dk_6 (dk_at dksL_law_66 2 rfl rfl)
theorem dL_law_1761 : decode cL_law 1761 = .ok (.iadd, 1) := dk_96 (dk_at dksL_law_66 3 rfl rfl)
theorem dL_law_1762 : decode cL_law 1762 = .ok (.iaload, 1) := dk_46 (dk_at dksL_law_66 4 rfl rfl)
theorem dL_law_1763 : decode cL_law 1763 = .ok (.invokevirtual 224, 3) := dk_182 0 224 (dk_at dksL_law_66 5 rfl rfl)
theorem dL_law_1766 : decode cL_law 1766 = .ok (.if_icmp .eq 77, 3) := dk_159 0 77 (dk_at dksL_law_66 8 rfl rfl)
theorem dL_law_1769 : decode cL_law 1769 = .ok (.iconst 0, 1) := dk_3 (dk_at dksL_law_66 11 rfl rfl)
theorem dL_law_1770 : decode cL_law 1770 = .ok (.ireturn, 1) := dk_172 (dk_at dksL_law_66 12 rfl rfl)
theorem dL_law_1771 : decode cL_law 1771 = .ok (.aload_n 1, 1) := dk_43 (dk_at dksL_law_66 13 rfl rfl)
theorem dL_law_1772 : decode cL_law 1772 = .ok (.aload_n 0, 1) := dk_42 (dk_at dksL_law_66 14 rfl rfl)
theorem dL_law_1773 : decode cL_law 1773 = .ok (.iload_n 3, 1) := dk_29 (dk_at dksL_law_66 15 rfl rfl)
theorem dL_law_1774 : decode cL_law 1774 = .ok (.iconst 1, 1) := dk_4 (dk_at dksL_law_66 16 rfl rfl)
theorem dL_law_1775 : decode cL_law 1775 = .ok (.iadd, 1) := dk_96 (dk_at dksL_law_66 17 rfl rfl)
theorem dL_law_1776 : decode cL_law 1776 = .ok (.iaload, 1) := dk_46 (dk_at dksL_law_66 18 rfl rfl)
theorem dL_law_1777 : decode cL_law 1777 = .ok (.invokevirtual 225, 3) := dk_182 0 225 (dk_at dksL_law_66 19 rfl rfl)
theorem dL_law_1780 : decode cL_law 1780 = .ok (.aload_n 2, 1) := dk_44 (dk_at dksL_law_66 22 rfl rfl)
theorem dL_law_1781 : decode cL_law 1781 = .ok (.aload_n 0, 1) := dk_42 (dk_at dksL_law_66 23 rfl rfl)
theorem dL_law_1782 : decode cL_law 1782 = .ok (.iload_n 3, 1) := dk_29 (dk_at dksL_law_67 0 rfl rfl)
theorem dL_law_1783 : decode cL_law 1783 = .ok (.iconst 1, 1) := dk_4 (dk_at dksL_law_67 1 rfl rfl)
theorem dL_law_1784 : decode cL_law 1784 = .ok (.iadd, 1) := dk_96 (dk_at dksL_law_67 2 rfl rfl)
theorem dL_law_1785 : decode cL_law 1785 = .ok (.iaload, 1) := dk_46 (dk_at dksL_law_67 3 rfl rfl)
theorem dL_law_1786 : decode cL_law 1786 = .ok (.invokevirtual 228, 3) := dk_182 0 228 (dk_at dksL_law_67 4 rfl rfl)
theorem dL_law_1789 : decode cL_law 1789 = .ok (.if_icmp .eq 54, 3) := dk_159 0 54 (dk_at dksL_law_67 7 rfl rfl)
theorem dL_law_1792 : decode cL_law 1792 = .ok (.iconst 0, 1) := dk_3 (dk_at dksL_law_67 10 rfl rfl)
theorem dL_law_1793 : decode cL_law 1793 = .ok (.ireturn, 1) := dk_172 (dk_at dksL_law_67 11 rfl rfl)
theorem dL_law_1794 : decode cL_law 1794 = .ok (.aload_n 1, 1) := dk_43 (dk_at dksL_law_67 12 rfl rfl)
theorem dL_law_1795 : decode cL_law 1795 = .ok (.aload_n 0, 1) := dk_42 (dk_at dksL_law_67 13 rfl rfl)
theorem dL_law_1796 : decode cL_law 1796 = .ok (.iload_n 3, 1) := dk_29 (dk_at dksL_law_67 14 rfl rfl)
theorem dL_law_1797 : decode cL_law 1797 = .ok (.iconst 1, 1) := dk_4 (dk_at dksL_law_67 15 rfl rfl)
theorem dL_law_1798 : decode cL_law 1798 = .ok (.iadd, 1) := dk_96 (dk_at dksL_law_67 16 rfl rfl)
theorem dL_law_1799 : decode cL_law 1799 = .ok (.iaload, 1) := dk_46 (dk_at dksL_law_67 17 rfl rfl)
theorem dL_law_1800 : decode cL_law 1800 = .ok (.invokevirtual 229, 3) := dk_182 0 229 (dk_at dksL_law_67 18 rfl rfl)
theorem dL_law_1803 : decode cL_law 1803 = .ok (.aload_n 2, 1) := dk_44 (dk_at dksL_law_67 21 rfl rfl)
theorem dL_law_1804 : decode cL_law 1804 = .ok (.aload_n 0, 1) := dk_42 (dk_at dksL_law_67 22 rfl rfl)
theorem dL_law_1805 : decode cL_law 1805 = .ok (.iload_n 3, 1) := dk_29 (dk_at dksL_law_67 23 rfl rfl)
theorem dL_law_1806 : decode cL_law 1806 = .ok (.iconst 1, 1) := dk_4 (dk_at dksL_law_68 0 rfl rfl)
theorem dL_law_1807 : decode cL_law 1807 = .ok (.iadd, 1) := dk_96 (dk_at dksL_law_68 1 rfl rfl)
theorem dL_law_1808 : decode cL_law 1808 = .ok (.iaload, 1) := dk_46 (dk_at dksL_law_68 2 rfl rfl)
theorem dL_law_1809 : decode cL_law 1809 = .ok (.invokevirtual 232, 3) := dk_182 0 232 (dk_at dksL_law_68 3 rfl rfl)
theorem dL_law_1812 : decode cL_law 1812 = .ok (.if_icmp .eq 31, 3) := dk_159 0 31 (dk_at dksL_law_68 6 rfl rfl)
theorem dL_law_1815 : decode cL_law 1815 = .ok (.iconst 0, 1) := dk_3 (dk_at dksL_law_68 9 rfl rfl)
theorem dL_law_1816 : decode cL_law 1816 = .ok (.ireturn, 1) := dk_172 (dk_at dksL_law_68 10 rfl rfl)
theorem dL_law_1817 : decode cL_law 1817 = .ok (.aload_n 1, 1) := dk_43 (dk_at dksL_law_68 11 rfl rfl)
theorem dL_law_1818 : decode cL_law 1818 = .ok (.invokevirtual 233, 3) := dk_182 0 233 (dk_at dksL_law_68 12 rfl rfl)
theorem dL_law_1821 : decode cL_law 1821 = .ok (.aload_n 2, 1) := dk_44 (dk_at dksL_law_68 15 rfl rfl)
theorem dL_law_1822 : decode cL_law 1822 = .ok (.invokevirtual 236, 3) := dk_182 0 236 (dk_at dksL_law_68 16 rfl rfl)
theorem dL_law_1825 : decode cL_law 1825 = .ok (.if_icmp .eq 18, 3) := dk_159 0 18 (dk_at dksL_law_68 19 rfl rfl)
theorem dL_law_1828 : decode cL_law 1828 = .ok (.iconst 0, 1) := dk_3 (dk_at dksL_law_68 22 rfl rfl)
theorem dL_law_1829 : decode cL_law 1829 = .ok (.ireturn, 1) := dk_172 (dk_at dksL_law_68 23 rfl rfl)
theorem dL_law_1830 : decode cL_law 1830 = .ok (.aload_n 1, 1) := dk_43 (dk_at dksL_law_69 0 rfl rfl)
theorem dL_law_1831 : decode cL_law 1831 = .ok (.invokevirtual 237, 3) := dk_182 0 237 (dk_at dksL_law_69 1 rfl rfl)
theorem dL_law_1834 : decode cL_law 1834 = .ok (.aload_n 2, 1) := dk_44 (dk_at dksL_law_69 4 rfl rfl)
theorem dL_law_1835 : decode cL_law 1835 = .ok (.invokevirtual 240, 3) := dk_182 0 240 (dk_at dksL_law_69 5 rfl rfl)
theorem dL_law_1838 : decode cL_law 1838 = .ok (.if_icmp .eq 5, 3) := dk_159 0 5 (dk_at dksL_law_69 8 rfl rfl)
theorem dL_law_1841 : decode cL_law 1841 = .ok (.iconst 0, 1) := dk_3 (dk_at dksL_law_69 11 rfl rfl)
theorem dL_law_1842 : decode cL_law 1842 = .ok (.ireturn, 1) := dk_172 (dk_at dksL_law_69 12 rfl rfl)
theorem dL_law_1843 : decode cL_law 1843 = .ok (.iinc 3 5, 3) := dk_132 3 5 (dk_at dksL_law_69 13 rfl rfl)
theorem dL_law_1846 : decode cL_law 1846 = .ok (.goto (-1828), 3) := dk_167 248 220 (dk_at dksL_law_69 16 rfl rfl)
theorem dL_law_1849 : decode cL_law 1849 = .ok (.iconst 1, 1) := dk_4 (dk_at dksL_law_69 19 rfl rfl)
theorem dL_law_1850 : decode cL_law 1850 = .ok (.ireturn, 1) := dk_172 (dk_at dksL_law_69 20 rfl rfl)
theorem q117 : (Jvm.Cond.initialized "LeftUndoesLaw") ∈ lw_all := lw_g (lw_at lw_m1 0 rfl) rfl
set_option maxRecDepth 100000
theorem q153 : (Jvm.Cond.classLink "LeftUndoesLaw" (7 : Nat) "LeftUndoes") ∈ lw_all := lw_g (lw_at lw_m1 36 rfl) rfl
theorem q155 : (Jvm.Cond.methodLink "LeftUndoesLaw" (9 : Nat) ({ cls := "LeftUndoes", name := "<init>", desc := "()V" } : Jvm.MethodName)) ∈ lw_all := lw_g (lw_at lw_m1 38 rfl) rfl
theorem q502 : (Jvm.Cond.methodLink "LeftUndoesLaw" (13 : Nat) ({ cls := "LeftUndoes", name := "person", desc := "(III)I" } : Jvm.MethodName)) ∈ lw_all := lw_g (lw_at lw_m2 145 rfl) rfl
theorem q574 : (Jvm.Cond.methodLink "LeftUndoesLaw" (18 : Nat) ({ cls := "LeftUndoes", name := "personOf", desc := "(II)I" } : Jvm.MethodName)) ∈ lw_all := lw_g (lw_at lw_m2 217 rfl) rfl
theorem q675 : (Jvm.Cond.methodLink "LeftUndoesLaw" (23 : Nat) ({ cls := "LeftUndoes", name := "change", desc := "(III)I" } : Jvm.MethodName)) ∈ lw_all := lw_g (lw_at lw_m3 78 rfl) rfl
theorem q679 : (Jvm.Cond.methodLink "LeftUndoesLaw" (27 : Nat) ({ cls := "LeftUndoes", name := "remake", desc := "(II)I" } : Jvm.MethodName)) ∈ lw_all := lw_g (lw_at lw_m3 82 rfl) rfl
theorem q683 : (Jvm.Cond.methodLink "LeftUndoesLaw" (31 : Nat) ({ cls := "LeftUndoes", name := "deed", desc := "(IIII)I" } : Jvm.MethodName)) ∈ lw_all := lw_g (lw_at lw_m3 86 rfl) rfl
theorem q691 : (Jvm.Cond.methodLink "LeftUndoesLaw" (36 : Nat) ({ cls := "LeftUndoes", name := "deedOf", desc := "(II)I" } : Jvm.MethodName)) ∈ lw_all := lw_g (lw_at lw_m3 94 rfl) rfl
theorem q695 : (Jvm.Cond.methodLink "LeftUndoesLaw" (40 : Nat) ({ cls := "LeftUndoes", name := "ends", desc := "(I)I" } : Jvm.MethodName)) ∈ lw_all := lw_g (lw_at lw_m3 98 rfl) rfl
theorem q699 : (Jvm.Cond.methodLink "LeftUndoesLaw" (45 : Nat) ({ cls := "LeftUndoes", name := "anew", desc := "()I" } : Jvm.MethodName)) ∈ lw_all := lw_g (lw_at lw_m3 102 rfl) rfl
theorem q703 : (Jvm.Cond.methodLink "LeftUndoesLaw" (50 : Nat) ({ cls := "LeftUndoes", name := "state", desc := "(I)I" } : Jvm.MethodName)) ∈ lw_all := lw_g (lw_at lw_m3 106 rfl) rfl
theorem q711 : (Jvm.Cond.methodLink "LeftUndoesLaw" (56 : Nat) ({ cls := "LeftUndoes", name := "feed", desc := "(JI)I" } : Jvm.MethodName)) ∈ lw_all := lw_g (lw_at lw_m3 114 rfl) rfl
theorem q715 : (Jvm.Cond.methodLink "LeftUndoesLaw" (61 : Nat) ({ cls := "LeftUndoes", name := "rules", desc := "()I" } : Jvm.MethodName)) ∈ lw_all := lw_g (lw_at lw_m3 118 rfl) rfl
theorem q933 : (Jvm.Cond.methodLink "LeftUndoesLaw" (65 : Nat) ({ cls := "LeftUndoes", name := "year", desc := "()I" } : Jvm.MethodName)) ∈ lw_all := lw_g (lw_at lw_m4 96 rfl) rfl
theorem q957 : (Jvm.Cond.methodLink "LeftUndoesLaw" (69 : Nat) ({ cls := "LeftUndoes", name := "standing", desc := "(I)I" } : Jvm.MethodName)) ∈ lw_all := lw_g (lw_at lw_m4 120 rfl) rfl
theorem q965 : (Jvm.Cond.methodLink "LeftUndoesLaw" (73 : Nat) ({ cls := "LeftUndoes", name := "leaves", desc := "(I)I" } : Jvm.MethodName)) ∈ lw_all := lw_g (lw_at lw_m4 128 rfl) rfl
theorem q978 : (Jvm.Cond.methodLink "LeftUndoesLaw" (77 : Nat) ({ cls := "LeftUndoes", name := "on", desc := "(I)I" } : Jvm.MethodName)) ∈ lw_all := lw_g (lw_at lw_m4 141 rfl) rfl
theorem q982 : (Jvm.Cond.methodLink "LeftUndoesLaw" (81 : Nat) ({ cls := "LeftUndoes", name := "until", desc := "(I)I" } : Jvm.MethodName)) ∈ lw_all := lw_g (lw_at lw_m4 145 rfl) rfl
theorem q986 : (Jvm.Cond.methodLink "LeftUndoesLaw" (85 : Nat) ({ cls := "LeftUndoes", name := "overdue", desc := "()I" } : Jvm.MethodName)) ∈ lw_all := lw_g (lw_at lw_m4 149 rfl) rfl
theorem q994 : (Jvm.Cond.methodLink "LeftUndoesLaw" (89 : Nat) ({ cls := "LeftUndoes", name := "falls", desc := "(I)I" } : Jvm.MethodName)) ∈ lw_all := lw_g (lw_at lw_m4 157 rfl) rfl
theorem q1002 : (Jvm.Cond.methodLink "LeftUndoesLaw" (93 : Nat) ({ cls := "LeftUndoes", name := "graceFor", desc := "(I)I" } : Jvm.MethodName)) ∈ lw_all := lw_g (lw_at lw_m4 165 rfl) rfl
theorem q1013 : (Jvm.Cond.methodLink "LeftUndoesLaw" (97 : Nat) ({ cls := "LeftUndoes", name := "strengthFor", desc := "(I)I" } : Jvm.MethodName)) ∈ lw_all := lw_g (lw_at lw_m4 176 rfl) rfl
theorem q1017 : (Jvm.Cond.methodLink "LeftUndoesLaw" (101 : Nat) ({ cls := "LeftUndoes", name := "owe", desc := "(III)I" } : Jvm.MethodName)) ∈ lw_all := lw_g (lw_at lw_m4 180 rfl) rfl
theorem q1025 : (Jvm.Cond.methodLink "LeftUndoesLaw" (105 : Nat) ({ cls := "LeftUndoes", name := "owes", desc := "(II)I" } : Jvm.MethodName)) ∈ lw_all := lw_g (lw_at lw_m4 188 rfl) rfl
theorem q1029 : (Jvm.Cond.methodLink "LeftUndoesLaw" (109 : Nat) ({ cls := "LeftUndoes", name := "net", desc := "(I)I" } : Jvm.MethodName)) ∈ lw_all := lw_g (lw_at lw_m4 192 rfl) rfl
theorem q1037 : (Jvm.Cond.methodLink "LeftUndoesLaw" (113 : Nat) ({ cls := "LeftUndoes", name := "ring", desc := "(I)I" } : Jvm.MethodName)) ∈ lw_all := lw_g (lw_at lw_m4 200 rfl) rfl
theorem q1045 : (Jvm.Cond.methodLink "LeftUndoesLaw" (117 : Nat) ({ cls := "LeftUndoes", name := "payments", desc := "()I" } : Jvm.MethodName)) ∈ lw_all := lw_g (lw_at lw_m4 208 rfl) rfl
theorem q1055 : (Jvm.Cond.methodLink "LeftUndoesLaw" (121 : Nat) ({ cls := "LeftUndoes", name := "best", desc := "(I)I" } : Jvm.MethodName)) ∈ lw_all := lw_g (lw_at lw_m4 218 rfl) rfl
theorem q1071 : (Jvm.Cond.methodLink "LeftUndoesLaw" (125 : Nat) ({ cls := "LeftUndoes", name := "ith", desc := "(II)I" } : Jvm.MethodName)) ∈ lw_all := lw_g (lw_at lw_m4 234 rfl) rfl
theorem q1075 : (Jvm.Cond.methodLink "LeftUndoesLaw" (129 : Nat) ({ cls := "LeftUndoes", name := "ways", desc := "(I)I" } : Jvm.MethodName)) ∈ lw_all := lw_g (lw_at lw_m4 238 rfl) rfl
theorem q1079 : (Jvm.Cond.methodLink "LeftUndoesLaw" (133 : Nat) ({ cls := "LeftUndoes", name := "life", desc := "(II)I" } : Jvm.MethodName)) ∈ lw_all := lw_g (lw_at lw_m5 2 rfl) rfl
theorem q1098 : (Jvm.Cond.methodLink "LeftUndoesLaw" (137 : Nat) ({ cls := "LeftUndoes", name := "bars", desc := "(II)I" } : Jvm.MethodName)) ∈ lw_all := lw_g (lw_at lw_m5 21 rfl) rfl
theorem q1106 : (Jvm.Cond.methodLink "LeftUndoesLaw" (141 : Nat) ({ cls := "LeftUndoes", name := "game", desc := "(I)I" } : Jvm.MethodName)) ∈ lw_all := lw_g (lw_at lw_m5 29 rfl) rfl
theorem q1114 : (Jvm.Cond.methodLink "LeftUndoesLaw" (145 : Nat) ({ cls := "LeftUndoes", name := "play", desc := "(I)I" } : Jvm.MethodName)) ∈ lw_all := lw_g (lw_at lw_m5 37 rfl) rfl
theorem q1118 : (Jvm.Cond.methodLink "LeftUndoesLaw" (149 : Nat) ({ cls := "LeftUndoes", name := "report", desc := "(IIII)I" } : Jvm.MethodName)) ∈ lw_all := lw_g (lw_at lw_m5 41 rfl) rfl
theorem q1122 : (Jvm.Cond.methodLink "LeftUndoesLaw" (153 : Nat) ({ cls := "LeftUndoes", name := "forget", desc := "()I" } : Jvm.MethodName)) ∈ lw_all := lw_g (lw_at lw_m5 45 rfl) rfl
theorem q1126 : (Jvm.Cond.methodLink "LeftUndoesLaw" (157 : Nat) ({ cls := "LeftUndoes", name := "span", desc := "(I)I" } : Jvm.MethodName)) ∈ lw_all := lw_g (lw_at lw_m5 49 rfl) rfl
theorem q1142 : (Jvm.Cond.methodLink "LeftUndoesLaw" (161 : Nat) ({ cls := "LeftUndoes", name := "liar", desc := "()I" } : Jvm.MethodName)) ∈ lw_all := lw_g (lw_at lw_m5 65 rfl) rfl
theorem q1146 : (Jvm.Cond.methodLink "LeftUndoesLaw" (165 : Nat) ({ cls := "LeftUndoes", name := "seed", desc := "(I)I" } : Jvm.MethodName)) ∈ lw_all := lw_g (lw_at lw_m5 69 rfl) rfl
theorem q1150 : (Jvm.Cond.methodLink "LeftUndoesLaw" (169 : Nat) ({ cls := "LeftUndoes", name := "lot", desc := "()I" } : Jvm.MethodName)) ∈ lw_all := lw_g (lw_at lw_m5 73 rfl) rfl
theorem q1159 : (Jvm.Cond.methodLink "LeftUndoesLaw" (173 : Nat) ({ cls := "LeftUndoes", name := "often", desc := "(II)I" } : Jvm.MethodName)) ∈ lw_all := lw_g (lw_at lw_m5 82 rfl) rfl
theorem q1167 : (Jvm.Cond.methodLink "LeftUndoesLaw" (177 : Nat) ({ cls := "LeftUndoes", name := "prove", desc := "(I)I" } : Jvm.MethodName)) ∈ lw_all := lw_g (lw_at lw_m5 90 rfl) rfl
theorem q1171 : (Jvm.Cond.methodLink "LeftUndoesLaw" (181 : Nat) ({ cls := "LeftUndoes", name := "row", desc := "(II)I" } : Jvm.MethodName)) ∈ lw_all := lw_g (lw_at lw_m5 94 rfl) rfl
theorem q1179 : (Jvm.Cond.methodLink "LeftUndoesLaw" (185 : Nat) ({ cls := "LeftUndoes", name := "alterRow", desc := "(III)I" } : Jvm.MethodName)) ∈ lw_all := lw_g (lw_at lw_m5 102 rfl) rfl
theorem q1183 : (Jvm.Cond.methodLink "LeftUndoesLaw" (189 : Nat) ({ cls := "LeftUndoes", name := "judge", desc := "()I" } : Jvm.MethodName)) ∈ lw_all := lw_g (lw_at lw_m5 106 rfl) rfl
theorem q1191 : (Jvm.Cond.methodLink "LeftUndoesLaw" (193 : Nat) ({ cls := "LeftUndoes", name := "sheet", desc := "(III)I" } : Jvm.MethodName)) ∈ lw_all := lw_g (lw_at lw_m5 114 rfl) rfl
theorem q1231 : (Jvm.Cond.methodLink "LeftUndoesLaw" (197 : Nat) ({ cls := "LeftUndoes", name := "write", desc := "(III)I" } : Jvm.MethodName)) ∈ lw_all := lw_g (lw_at lw_m5 154 rfl) rfl
theorem q1251 : (Jvm.Cond.methodLink "LeftUndoesLaw" (201 : Nat) ({ cls := "LeftUndoes", name := "item", desc := "(III)I" } : Jvm.MethodName)) ∈ lw_all := lw_g (lw_at lw_m5 174 rfl) rfl
theorem q1301 : (Jvm.Cond.methodLink "LeftUndoesLaw" (205 : Nat) ({ cls := "LeftUndoes", name := "goAll", desc := "(III)I" } : Jvm.MethodName)) ∈ lw_all := lw_g (lw_at lw_m5 224 rfl) rfl
theorem q1305 : (Jvm.Cond.methodLink "LeftUndoesLaw" (209 : Nat) ({ cls := "LeftUndoes", name := "wouldBe", desc := "(III)I" } : Jvm.MethodName)) ∈ lw_all := lw_g (lw_at lw_m5 228 rfl) rfl
theorem q1309 : (Jvm.Cond.methodLink "LeftUndoesLaw" (213 : Nat) ({ cls := "LeftUndoes", name := "shelf", desc := "(III)I" } : Jvm.MethodName)) ∈ lw_all := lw_g (lw_at lw_m5 232 rfl) rfl
theorem q1324 : (Jvm.Cond.methodLink "LeftUndoesLaw" (217 : Nat) ({ cls := "LeftUndoes", name := "taken", desc := "(II)I" } : Jvm.MethodName)) ∈ lw_all := lw_g (lw_at lw_m6 7 rfl) rfl
theorem q1347 : (Jvm.Cond.methodLink "LeftUndoesLaw" (221 : Nat) ({ cls := "LeftUndoes", name := "act", desc := "(III)I" } : Jvm.MethodName)) ∈ lw_all := lw_g (lw_at lw_m6 30 rfl) rfl
theorem q1521 : (Jvm.Cond.methodLink "LeftUndoesLaw" (225 : Nat) ({ cls := "LeftUndoes", name := "trace", desc := "(I)I" } : Jvm.MethodName)) ∈ lw_all := lw_g (lw_at lw_m6 204 rfl) rfl
theorem q1525 : (Jvm.Cond.methodLink "LeftUndoesLaw" (229 : Nat) ({ cls := "LeftUndoes", name := "many", desc := "(I)I" } : Jvm.MethodName)) ∈ lw_all := lw_g (lw_at lw_m6 208 rfl) rfl
theorem q1533 : (Jvm.Cond.methodLink "LeftUndoesLaw" (233 : Nat) ({ cls := "LeftUndoes", name := "keep", desc := "()I" } : Jvm.MethodName)) ∈ lw_all := lw_g (lw_at lw_m6 216 rfl) rfl
theorem q1537 : (Jvm.Cond.methodLink "LeftUndoesLaw" (237 : Nat) ({ cls := "LeftUndoes", name := "again", desc := "()I" } : Jvm.MethodName)) ∈ lw_all := lw_g (lw_at lw_m6 220 rfl) rfl
theorem q1541 : (Jvm.Cond.classLink "LeftUndoesLaw" (10 : Nat) "LeftUndoesModel") ∈ lw_all := lw_g (lw_at lw_m6 224 rfl) rfl
theorem q1543 : (Jvm.Cond.methodLink "LeftUndoesLaw" (12 : Nat) ({ cls := "LeftUndoesModel", name := "<init>", desc := "()V" } : Jvm.MethodName)) ∈ lw_all := lw_g (lw_at lw_m6 226 rfl) rfl
theorem q1674 : (Jvm.Cond.methodLink "LeftUndoesLaw" (17 : Nat) ({ cls := "LeftUndoesModel", name := "person", desc := "(III)I" } : Jvm.MethodName)) ∈ lw_all := lw_g (lw_at lw_m7 117 rfl) rfl
theorem q1689 : (Jvm.Cond.methodLink "LeftUndoesLaw" (22 : Nat) ({ cls := "LeftUndoesModel", name := "personOf", desc := "(II)I" } : Jvm.MethodName)) ∈ lw_all := lw_g (lw_at lw_m7 132 rfl) rfl
theorem q1744 : (Jvm.Cond.methodLink "LeftUndoesLaw" (26 : Nat) ({ cls := "LeftUndoesModel", name := "change", desc := "(III)I" } : Jvm.MethodName)) ∈ lw_all := lw_g (lw_at lw_m7 187 rfl) rfl
theorem q1753 : (Jvm.Cond.methodLink "LeftUndoesLaw" (30 : Nat) ({ cls := "LeftUndoesModel", name := "remake", desc := "(II)I" } : Jvm.MethodName)) ∈ lw_all := lw_g (lw_at lw_m7 196 rfl) rfl
theorem q1757 : (Jvm.Cond.methodLink "LeftUndoesLaw" (35 : Nat) ({ cls := "LeftUndoesModel", name := "deed", desc := "(IIII)I" } : Jvm.MethodName)) ∈ lw_all := lw_g (lw_at lw_m7 200 rfl) rfl
theorem q1766 : (Jvm.Cond.methodLink "LeftUndoesLaw" (39 : Nat) ({ cls := "LeftUndoesModel", name := "deedOf", desc := "(II)I" } : Jvm.MethodName)) ∈ lw_all := lw_g (lw_at lw_m7 209 rfl) rfl
theorem q1770 : (Jvm.Cond.methodLink "LeftUndoesLaw" (44 : Nat) ({ cls := "LeftUndoesModel", name := "ends", desc := "(I)I" } : Jvm.MethodName)) ∈ lw_all := lw_g (lw_at lw_m7 213 rfl) rfl
theorem q1775 : (Jvm.Cond.methodLink "LeftUndoesLaw" (49 : Nat) ({ cls := "LeftUndoesModel", name := "anew", desc := "()I" } : Jvm.MethodName)) ∈ lw_all := lw_g (lw_at lw_m7 218 rfl) rfl
theorem q1779 : (Jvm.Cond.methodLink "LeftUndoesLaw" (53 : Nat) ({ cls := "LeftUndoesModel", name := "state", desc := "(I)I" } : Jvm.MethodName)) ∈ lw_all := lw_g (lw_at lw_m7 222 rfl) rfl
theorem q1787 : (Jvm.Cond.methodLink "LeftUndoesLaw" (68 : Nat) ({ cls := "LeftUndoesModel", name := "year", desc := "()I" } : Jvm.MethodName)) ∈ lw_all := lw_g (lw_at lw_m7 230 rfl) rfl
theorem q1799 : (Jvm.Cond.methodLink "LeftUndoesLaw" (72 : Nat) ({ cls := "LeftUndoesModel", name := "standing", desc := "(I)I" } : Jvm.MethodName)) ∈ lw_all := lw_g (lw_at lw_m8 2 rfl) rfl
theorem q1808 : (Jvm.Cond.methodLink "LeftUndoesLaw" (76 : Nat) ({ cls := "LeftUndoesModel", name := "leaves", desc := "(I)I" } : Jvm.MethodName)) ∈ lw_all := lw_g (lw_at lw_m8 11 rfl) rfl
theorem q1824 : (Jvm.Cond.methodLink "LeftUndoesLaw" (80 : Nat) ({ cls := "LeftUndoesModel", name := "on", desc := "(I)I" } : Jvm.MethodName)) ∈ lw_all := lw_g (lw_at lw_m8 27 rfl) rfl
theorem q1828 : (Jvm.Cond.methodLink "LeftUndoesLaw" (84 : Nat) ({ cls := "LeftUndoesModel", name := "until", desc := "(I)I" } : Jvm.MethodName)) ∈ lw_all := lw_g (lw_at lw_m8 31 rfl) rfl
theorem q1836 : (Jvm.Cond.methodLink "LeftUndoesLaw" (88 : Nat) ({ cls := "LeftUndoesModel", name := "overdue", desc := "()I" } : Jvm.MethodName)) ∈ lw_all := lw_g (lw_at lw_m8 39 rfl) rfl
theorem q1844 : (Jvm.Cond.methodLink "LeftUndoesLaw" (92 : Nat) ({ cls := "LeftUndoesModel", name := "falls", desc := "(I)I" } : Jvm.MethodName)) ∈ lw_all := lw_g (lw_at lw_m8 47 rfl) rfl
theorem q1848 : (Jvm.Cond.methodLink "LeftUndoesLaw" (96 : Nat) ({ cls := "LeftUndoesModel", name := "graceFor", desc := "(I)I" } : Jvm.MethodName)) ∈ lw_all := lw_g (lw_at lw_m8 51 rfl) rfl
theorem q1852 : (Jvm.Cond.methodLink "LeftUndoesLaw" (100 : Nat) ({ cls := "LeftUndoesModel", name := "strengthFor", desc := "(I)I" } : Jvm.MethodName)) ∈ lw_all := lw_g (lw_at lw_m8 55 rfl) rfl
theorem q1856 : (Jvm.Cond.methodLink "LeftUndoesLaw" (104 : Nat) ({ cls := "LeftUndoesModel", name := "owe", desc := "(III)I" } : Jvm.MethodName)) ∈ lw_all := lw_g (lw_at lw_m8 59 rfl) rfl
theorem q1865 : (Jvm.Cond.methodLink "LeftUndoesLaw" (108 : Nat) ({ cls := "LeftUndoesModel", name := "owes", desc := "(II)I" } : Jvm.MethodName)) ∈ lw_all := lw_g (lw_at lw_m8 68 rfl) rfl
theorem q1869 : (Jvm.Cond.methodLink "LeftUndoesLaw" (112 : Nat) ({ cls := "LeftUndoesModel", name := "net", desc := "(I)I" } : Jvm.MethodName)) ∈ lw_all := lw_g (lw_at lw_m8 72 rfl) rfl
theorem q1877 : (Jvm.Cond.methodLink "LeftUndoesLaw" (116 : Nat) ({ cls := "LeftUndoesModel", name := "ring", desc := "(I)I" } : Jvm.MethodName)) ∈ lw_all := lw_g (lw_at lw_m8 80 rfl) rfl
theorem q1885 : (Jvm.Cond.methodLink "LeftUndoesLaw" (120 : Nat) ({ cls := "LeftUndoesModel", name := "payments", desc := "()I" } : Jvm.MethodName)) ∈ lw_all := lw_g (lw_at lw_m8 88 rfl) rfl
theorem q1889 : (Jvm.Cond.methodLink "LeftUndoesLaw" (124 : Nat) ({ cls := "LeftUndoesModel", name := "best", desc := "(I)I" } : Jvm.MethodName)) ∈ lw_all := lw_g (lw_at lw_m8 92 rfl) rfl
theorem q1920 : (Jvm.Cond.methodLink "LeftUndoesLaw" (128 : Nat) ({ cls := "LeftUndoesModel", name := "ith", desc := "(II)I" } : Jvm.MethodName)) ∈ lw_all := lw_g (lw_at lw_m8 123 rfl) rfl
theorem q1925 : (Jvm.Cond.methodLink "LeftUndoesLaw" (132 : Nat) ({ cls := "LeftUndoesModel", name := "ways", desc := "(I)I" } : Jvm.MethodName)) ∈ lw_all := lw_g (lw_at lw_m8 128 rfl) rfl
theorem q1929 : (Jvm.Cond.methodLink "LeftUndoesLaw" (136 : Nat) ({ cls := "LeftUndoesModel", name := "life", desc := "(II)I" } : Jvm.MethodName)) ∈ lw_all := lw_g (lw_at lw_m8 132 rfl) rfl
theorem q1937 : (Jvm.Cond.methodLink "LeftUndoesLaw" (140 : Nat) ({ cls := "LeftUndoesModel", name := "bars", desc := "(II)I" } : Jvm.MethodName)) ∈ lw_all := lw_g (lw_at lw_m8 140 rfl) rfl
theorem q1941 : (Jvm.Cond.methodLink "LeftUndoesLaw" (144 : Nat) ({ cls := "LeftUndoesModel", name := "game", desc := "(I)I" } : Jvm.MethodName)) ∈ lw_all := lw_g (lw_at lw_m8 144 rfl) rfl
theorem q1949 : (Jvm.Cond.methodLink "LeftUndoesLaw" (148 : Nat) ({ cls := "LeftUndoesModel", name := "play", desc := "(I)I" } : Jvm.MethodName)) ∈ lw_all := lw_g (lw_at lw_m8 152 rfl) rfl
theorem q1953 : (Jvm.Cond.methodLink "LeftUndoesLaw" (152 : Nat) ({ cls := "LeftUndoesModel", name := "report", desc := "(IIII)I" } : Jvm.MethodName)) ∈ lw_all := lw_g (lw_at lw_m8 156 rfl) rfl
theorem q1958 : (Jvm.Cond.methodLink "LeftUndoesLaw" (156 : Nat) ({ cls := "LeftUndoesModel", name := "forget", desc := "()I" } : Jvm.MethodName)) ∈ lw_all := lw_g (lw_at lw_m8 161 rfl) rfl
theorem q1962 : (Jvm.Cond.methodLink "LeftUndoesLaw" (160 : Nat) ({ cls := "LeftUndoesModel", name := "span", desc := "(I)I" } : Jvm.MethodName)) ∈ lw_all := lw_g (lw_at lw_m8 165 rfl) rfl
theorem q1978 : (Jvm.Cond.methodLink "LeftUndoesLaw" (164 : Nat) ({ cls := "LeftUndoesModel", name := "liar", desc := "()I" } : Jvm.MethodName)) ∈ lw_all := lw_g (lw_at lw_m8 181 rfl) rfl
theorem q1982 : (Jvm.Cond.methodLink "LeftUndoesLaw" (168 : Nat) ({ cls := "LeftUndoesModel", name := "seed", desc := "(I)I" } : Jvm.MethodName)) ∈ lw_all := lw_g (lw_at lw_m8 185 rfl) rfl
theorem q1986 : (Jvm.Cond.methodLink "LeftUndoesLaw" (172 : Nat) ({ cls := "LeftUndoesModel", name := "lot", desc := "()I" } : Jvm.MethodName)) ∈ lw_all := lw_g (lw_at lw_m8 189 rfl) rfl
theorem q1995 : (Jvm.Cond.methodLink "LeftUndoesLaw" (176 : Nat) ({ cls := "LeftUndoesModel", name := "often", desc := "(II)I" } : Jvm.MethodName)) ∈ lw_all := lw_g (lw_at lw_m8 198 rfl) rfl
theorem q2001 : (Jvm.Cond.methodLink "LeftUndoesLaw" (180 : Nat) ({ cls := "LeftUndoesModel", name := "prove", desc := "(I)I" } : Jvm.MethodName)) ∈ lw_all := lw_g (lw_at lw_m8 204 rfl) rfl
theorem q2005 : (Jvm.Cond.methodLink "LeftUndoesLaw" (184 : Nat) ({ cls := "LeftUndoesModel", name := "row", desc := "(II)I" } : Jvm.MethodName)) ∈ lw_all := lw_g (lw_at lw_m8 208 rfl) rfl
theorem q2013 : (Jvm.Cond.methodLink "LeftUndoesLaw" (188 : Nat) ({ cls := "LeftUndoesModel", name := "alterRow", desc := "(III)I" } : Jvm.MethodName)) ∈ lw_all := lw_g (lw_at lw_m8 216 rfl) rfl
theorem q2017 : (Jvm.Cond.methodLink "LeftUndoesLaw" (192 : Nat) ({ cls := "LeftUndoesModel", name := "judge", desc := "()I" } : Jvm.MethodName)) ∈ lw_all := lw_g (lw_at lw_m8 220 rfl) rfl
theorem q2025 : (Jvm.Cond.methodLink "LeftUndoesLaw" (60 : Nat) ({ cls := "LeftUndoesModel", name := "feed", desc := "(JI)I" } : Jvm.MethodName)) ∈ lw_all := lw_g (lw_at lw_m8 228 rfl) rfl
theorem q2031 : (Jvm.Cond.methodLink "LeftUndoesLaw" (64 : Nat) ({ cls := "LeftUndoesModel", name := "rules", desc := "()I" } : Jvm.MethodName)) ∈ lw_all := lw_g (lw_at lw_m8 234 rfl) rfl
theorem q2121 : (Jvm.Cond.methodLink "LeftUndoesLaw" (196 : Nat) ({ cls := "LeftUndoesModel", name := "sheet", desc := "(III)I" } : Jvm.MethodName)) ∈ lw_all := lw_g (lw_at lw_m9 84 rfl) rfl
theorem q2129 : (Jvm.Cond.methodLink "LeftUndoesLaw" (200 : Nat) ({ cls := "LeftUndoesModel", name := "write", desc := "(III)I" } : Jvm.MethodName)) ∈ lw_all := lw_g (lw_at lw_m9 92 rfl) rfl
theorem q2136 : (Jvm.Cond.methodLink "LeftUndoesLaw" (204 : Nat) ({ cls := "LeftUndoesModel", name := "item", desc := "(III)I" } : Jvm.MethodName)) ∈ lw_all := lw_g (lw_at lw_m9 99 rfl) rfl
theorem q2144 : (Jvm.Cond.methodLink "LeftUndoesLaw" (208 : Nat) ({ cls := "LeftUndoesModel", name := "goAll", desc := "(III)I" } : Jvm.MethodName)) ∈ lw_all := lw_g (lw_at lw_m9 107 rfl) rfl
theorem q2157 : (Jvm.Cond.methodLink "LeftUndoesLaw" (212 : Nat) ({ cls := "LeftUndoesModel", name := "wouldBe", desc := "(III)I" } : Jvm.MethodName)) ∈ lw_all := lw_g (lw_at lw_m9 120 rfl) rfl
theorem q2161 : (Jvm.Cond.methodLink "LeftUndoesLaw" (216 : Nat) ({ cls := "LeftUndoesModel", name := "shelf", desc := "(III)I" } : Jvm.MethodName)) ∈ lw_all := lw_g (lw_at lw_m9 124 rfl) rfl
theorem q2165 : (Jvm.Cond.methodLink "LeftUndoesLaw" (220 : Nat) ({ cls := "LeftUndoesModel", name := "taken", desc := "(II)I" } : Jvm.MethodName)) ∈ lw_all := lw_g (lw_at lw_m9 128 rfl) rfl
theorem q2175 : (Jvm.Cond.methodLink "LeftUndoesLaw" (224 : Nat) ({ cls := "LeftUndoesModel", name := "act", desc := "(III)I" } : Jvm.MethodName)) ∈ lw_all := lw_g (lw_at lw_m9 138 rfl) rfl
theorem q2203 : (Jvm.Cond.methodLink "LeftUndoesLaw" (228 : Nat) ({ cls := "LeftUndoesModel", name := "trace", desc := "(I)I" } : Jvm.MethodName)) ∈ lw_all := lw_g (lw_at lw_m9 166 rfl) rfl
theorem q2211 : (Jvm.Cond.methodLink "LeftUndoesLaw" (232 : Nat) ({ cls := "LeftUndoesModel", name := "many", desc := "(I)I" } : Jvm.MethodName)) ∈ lw_all := lw_g (lw_at lw_m9 174 rfl) rfl
theorem q2219 : (Jvm.Cond.methodLink "LeftUndoesLaw" (236 : Nat) ({ cls := "LeftUndoesModel", name := "keep", desc := "()I" } : Jvm.MethodName)) ∈ lw_all := lw_g (lw_at lw_m9 182 rfl) rfl
theorem q2223 : (Jvm.Cond.methodLink "LeftUndoesLaw" (240 : Nat) ({ cls := "LeftUndoesModel", name := "again", desc := "()I" } : Jvm.MethodName)) ∈ lw_all := lw_g (lw_at lw_m9 186 rfl) rfl
theorem q2227 : (Jvm.Cond.constantLong "LeftUndoesLaw" (54 : Nat) (4294967295 : Int64)) ∈ lw_all := lw_g (lw_at lw_m9 190 rfl) rfl
