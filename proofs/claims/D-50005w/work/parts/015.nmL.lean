/-! the law's own entry -/
set_option maxRecDepth 100000
abbrev cL_law : ByteArray := code
def dkwL_law_88 : List UInt8 := [167, 0, 3, 132, 4, 6, 167, 247, 117, 4, 172]
abbrev dktL_law_88 : List UInt8 := dkwL_law_88 ++ []
def dkwL_law_87 : List UInt8 := [21, 5, 159, 0, 5, 3, 172, 21, 5, 154, 0, 15, 45, 3, 47, 21, 6, 133, 148, 153, 0, 5, 3, 172]
abbrev dktL_law_87 : List UInt8 := dkwL_law_87 ++ dktL_law_88
def dkwL_law_86 : List UInt8 := [46, 45, 184, 1, 0, 54, 5, 44, 42, 21, 4, 4, 96, 46, 182, 1, 2, 54, 6, 44, 182, 0, 116]
abbrev dktL_law_86 : List UInt8 := dkwL_law_86 ++ dktL_law_87
def dkwL_law_85 : List UInt8 := [154, 0, 15, 45, 3, 47, 21, 6, 133, 148, 153, 0, 5, 3, 172, 167, 0, 59, 43, 42, 21, 4, 4, 96]
abbrev dktL_law_85 : List UInt8 := dkwL_law_85 ++ dktL_law_86
def dkwL_law_84 : List UInt8 := [21, 4, 4, 96, 46, 182, 0, 255, 54, 6, 44, 182, 0, 116, 21, 5, 159, 0, 5, 3, 172, 21, 5]
abbrev dktL_law_84 : List UInt8 := dkwL_law_84 ++ dktL_law_85
def dkwL_law_83 : List UInt8 := [153, 0, 5, 3, 172, 167, 0, 115, 43, 42, 21, 4, 4, 96, 46, 45, 184, 0, 253, 54, 5, 44, 42]
abbrev dktL_law_83 : List UInt8 := dkwL_law_83 ++ dktL_law_84
def dkwL_law_82 : List UInt8 := [182, 0, 116, 21, 5, 159, 0, 5, 3, 172, 21, 5, 154, 0, 15, 45, 3, 47, 21, 6, 133, 148]
abbrev dktL_law_82 : List UInt8 := dkwL_law_82 ++ dktL_law_83
def dkwL_law_81 : List UInt8 := [153, 0, 5, 3, 172, 167, 0, 159, 43, 45, 184, 0, 249, 54, 5, 44, 182, 0, 252, 54, 6, 44]
abbrev dktL_law_81 : List UInt8 := dkwL_law_81 ++ dktL_law_82
def dkwL_law_80 : List UInt8 := [182, 0, 116, 21, 5, 159, 0, 5, 3, 172, 21, 5, 154, 0, 15, 45, 3, 47, 21, 6, 133, 148]
abbrev dktL_law_80 : List UInt8 := dkwL_law_80 ++ dktL_law_81
def dkwL_law_79 : List UInt8 := [21, 4, 4, 96, 46, 45, 184, 0, 246, 54, 5, 44, 42, 21, 4, 4, 96, 46, 182, 0, 248, 54, 6, 44]
abbrev dktL_law_79 : List UInt8 := dkwL_law_79 ++ dktL_law_80
def dkwL_law_78 : List UInt8 := [148, 153, 0, 5, 3, 172, 167, 0, 228, 43, 182, 0, 242, 44, 182, 0, 245, 159, 0, 217, 3, 172, 43, 42]
abbrev dktL_law_78 : List UInt8 := dkwL_law_78 ++ dktL_law_79
def dkwL_law_77 : List UInt8 := [54, 6, 44, 182, 0, 116, 21, 5, 159, 0, 5, 3, 172, 21, 5, 154, 0, 15, 45, 3, 47, 21, 6, 133]
abbrev dktL_law_77 : List UInt8 := dkwL_law_77 ++ dktL_law_78
def dkwL_law_76 : List UInt8 := [46, 45, 184, 0, 239, 54, 5, 44, 42, 21, 4, 4, 96, 46, 42, 21, 4, 5, 96, 46, 182, 0, 241]
abbrev dktL_law_76 : List UInt8 := dkwL_law_76 ++ dktL_law_77
def dkwL_law_75 : List UInt8 := [21, 6, 133, 148, 153, 0, 5, 3, 172, 167, 1, 40, 43, 42, 21, 4, 4, 96, 46, 42, 21, 4, 5, 96]
abbrev dktL_law_75 : List UInt8 := dkwL_law_75 ++ dktL_law_76
def dkwL_law_74 : List UInt8 := [182, 0, 238, 54, 6, 44, 182, 0, 116, 21, 5, 159, 0, 5, 3, 172, 21, 5, 154, 0, 15, 45, 3, 47]
abbrev dktL_law_74 : List UInt8 := dkwL_law_74 ++ dktL_law_75
def dkwL_law_73 : List UInt8 := [167, 1, 96, 43, 42, 21, 4, 4, 96, 46, 45, 184, 0, 236, 54, 5, 44, 42, 21, 4, 4, 96, 46]
abbrev dktL_law_73 : List UInt8 := dkwL_law_73 ++ dktL_law_74
def dkwL_law_72 : List UInt8 := [21, 5, 159, 0, 5, 3, 172, 21, 5, 154, 0, 15, 45, 3, 47, 21, 6, 133, 148, 153, 0, 5, 3, 172]
abbrev dktL_law_72 : List UInt8 := dkwL_law_72 ++ dktL_law_73
def dkwL_law_71 : List UInt8 := [46, 45, 184, 0, 233, 54, 5, 44, 42, 21, 4, 4, 96, 46, 182, 0, 235, 54, 6, 44, 182, 0, 116]
abbrev dktL_law_71 : List UInt8 := dkwL_law_71 ++ dktL_law_72
def dkwL_law_70 : List UInt8 := [159, 1, 167, 3, 172, 43, 182, 0, 229, 44, 182, 0, 232, 159, 1, 154, 3, 172, 43, 42, 21, 4, 4, 96]
abbrev dktL_law_70 : List UInt8 := dkwL_law_70 ++ dktL_law_71
def dkwL_law_69 : List UInt8 := [167, 1, 191, 43, 182, 0, 220, 44, 182, 0, 223, 159, 1, 180, 3, 172, 43, 182, 0, 224, 44, 182, 0, 228]
abbrev dktL_law_69 : List UInt8 := dkwL_law_69 ++ dktL_law_70
def dkwL_law_68 : List UInt8 := [21, 5, 159, 0, 5, 3, 172, 21, 5, 154, 0, 15, 45, 3, 47, 21, 6, 133, 148, 153, 0, 5, 3, 172]
abbrev dktL_law_68 : List UInt8 := dkwL_law_68 ++ dktL_law_69
def dkwL_law_67 : List UInt8 := [46, 45, 184, 0, 217, 54, 5, 44, 42, 21, 4, 4, 96, 46, 182, 0, 219, 54, 6, 44, 182, 0, 116]
abbrev dktL_law_67 : List UInt8 := dkwL_law_67 ++ dktL_law_68
def dkwL_law_66 : List UInt8 := [154, 0, 15, 45, 3, 47, 21, 6, 133, 148, 153, 0, 5, 3, 172, 167, 1, 247, 43, 42, 21, 4, 4, 96]
abbrev dktL_law_66 : List UInt8 := dkwL_law_66 ++ dktL_law_67
def dkwL_law_65 : List UInt8 := [21, 4, 4, 96, 46, 182, 0, 216, 54, 6, 44, 182, 0, 116, 21, 5, 159, 0, 5, 3, 172, 21, 5]
abbrev dktL_law_65 : List UInt8 := dkwL_law_65 ++ dktL_law_66
def dkwL_law_64 : List UInt8 := [154, 0, 5, 3, 172, 167, 2, 47, 43, 42, 21, 4, 4, 96, 46, 45, 184, 0, 214, 54, 5, 44, 42]
abbrev dktL_law_64 : List UInt8 := dkwL_law_64 ++ dktL_law_65
def dkwL_law_63 : List UInt8 := [57, 7, 24, 5, 24, 7, 151, 153, 0, 21, 24, 5, 24, 5, 151, 153, 0, 11, 24, 7, 24, 7, 151]
abbrev dktL_law_63 : List UInt8 := dkwL_law_63 ++ dktL_law_64
def dkwL_law_62 : List UInt8 := [182, 0, 205, 44, 182, 0, 208, 159, 2, 92, 3, 172, 43, 182, 0, 209, 141, 57, 5, 44, 182, 0, 213, 141]
abbrev dktL_law_62 : List UInt8 := dkwL_law_62 ++ dktL_law_63
def dkwL_law_61 : List UInt8 := [148, 153, 0, 5, 3, 172, 167, 2, 116, 43, 182, 0, 201, 44, 182, 0, 204, 159, 2, 105, 3, 172, 43]
abbrev dktL_law_61 : List UInt8 := dkwL_law_61 ++ dktL_law_62
def dkwL_law_60 : List UInt8 := [54, 6, 44, 182, 0, 116, 21, 5, 159, 0, 5, 3, 172, 21, 5, 154, 0, 15, 45, 3, 47, 21, 6, 133]
abbrev dktL_law_60 : List UInt8 := dkwL_law_60 ++ dktL_law_61
def dkwL_law_59 : List UInt8 := [46, 45, 184, 0, 198, 54, 5, 44, 42, 21, 4, 4, 96, 46, 42, 21, 4, 5, 96, 46, 182, 0, 200]
abbrev dktL_law_59 : List UInt8 := dkwL_law_59 ++ dktL_law_60
def dkwL_law_58 : List UInt8 := [182, 0, 194, 44, 182, 0, 197, 159, 2, 186, 3, 172, 43, 42, 21, 4, 4, 96, 46, 42, 21, 4, 5, 96]
abbrev dktL_law_58 : List UInt8 := dkwL_law_58 ++ dktL_law_59
def dkwL_law_57 : List UInt8 := [148, 153, 0, 5, 3, 172, 167, 2, 210, 43, 182, 0, 190, 44, 182, 0, 193, 159, 2, 199, 3, 172, 43]
abbrev dktL_law_57 : List UInt8 := dkwL_law_57 ++ dktL_law_58
def dkwL_law_56 : List UInt8 := [54, 6, 44, 182, 0, 116, 21, 5, 159, 0, 5, 3, 172, 21, 5, 154, 0, 15, 45, 3, 47, 21, 6, 133]
abbrev dktL_law_56 : List UInt8 := dkwL_law_56 ++ dktL_law_57
def dkwL_law_55 : List UInt8 := [46, 45, 184, 0, 187, 54, 5, 44, 42, 21, 4, 4, 96, 46, 42, 21, 4, 5, 96, 46, 182, 0, 189]
abbrev dktL_law_55 : List UInt8 := dkwL_law_55 ++ dktL_law_56
def dkwL_law_54 : List UInt8 := [21, 6, 133, 148, 153, 0, 5, 3, 172, 167, 3, 22, 43, 42, 21, 4, 4, 96, 46, 42, 21, 4, 5, 96]
abbrev dktL_law_54 : List UInt8 := dkwL_law_54 ++ dktL_law_55
def dkwL_law_53 : List UInt8 := [182, 0, 186, 54, 6, 44, 182, 0, 116, 21, 5, 159, 0, 5, 3, 172, 21, 5, 154, 0, 15, 45, 3, 47]
abbrev dktL_law_53 : List UInt8 := dkwL_law_53 ++ dktL_law_54
def dkwL_law_52 : List UInt8 := [167, 3, 78, 43, 42, 21, 4, 4, 96, 46, 45, 184, 0, 184, 54, 5, 44, 42, 21, 4, 4, 96, 46]
abbrev dktL_law_52 : List UInt8 := dkwL_law_52 ++ dktL_law_53
def dkwL_law_51 : List UInt8 := [159, 0, 5, 3, 172, 21, 5, 154, 0, 15, 45, 3, 47, 21, 6, 133, 148, 153, 0, 5, 3, 172]
abbrev dktL_law_51 : List UInt8 := dkwL_law_51 ++ dktL_law_52
def dkwL_law_50 : List UInt8 := [21, 4, 4, 96, 46, 42, 21, 4, 5, 96, 46, 182, 0, 183, 54, 6, 44, 182, 0, 116, 21, 5]
abbrev dktL_law_50 : List UInt8 := dkwL_law_50 ++ dktL_law_51
def dkwL_law_49 : List UInt8 := [167, 3, 146, 43, 42, 21, 4, 4, 96, 46, 42, 21, 4, 5, 96, 46, 45, 184, 0, 181, 54, 5, 44, 42]
abbrev dktL_law_49 : List UInt8 := dkwL_law_49 ++ dktL_law_50
def dkwL_law_48 : List UInt8 := [21, 5, 159, 0, 5, 3, 172, 21, 5, 154, 0, 15, 45, 3, 47, 21, 6, 133, 148, 153, 0, 5, 3, 172]
abbrev dktL_law_48 : List UInt8 := dkwL_law_48 ++ dktL_law_49
def dkwL_law_47 : List UInt8 := [46, 45, 184, 0, 178, 54, 5, 44, 42, 21, 4, 4, 96, 46, 182, 0, 180, 54, 6, 44, 182, 0, 116]
abbrev dktL_law_47 : List UInt8 := dkwL_law_47 ++ dktL_law_48
def dkwL_law_46 : List UInt8 := [154, 0, 15, 45, 3, 47, 21, 6, 133, 148, 153, 0, 5, 3, 172, 167, 3, 202, 43, 42, 21, 4, 4, 96]
abbrev dktL_law_46 : List UInt8 := dkwL_law_46 ++ dktL_law_47
def dkwL_law_45 : List UInt8 := [21, 4, 6, 96, 46, 182, 0, 177, 54, 6, 44, 182, 0, 116, 21, 5, 159, 0, 5, 3, 172, 21, 5]
abbrev dktL_law_45 : List UInt8 := dkwL_law_45 ++ dktL_law_46
def dkwL_law_44 : List UInt8 := [6, 96, 46, 45, 184, 0, 175, 54, 5, 44, 42, 21, 4, 4, 96, 46, 42, 21, 4, 5, 96, 46, 42]
abbrev dktL_law_44 : List UInt8 := dkwL_law_44 ++ dktL_law_45
def dkwL_law_43 : List UInt8 := [153, 0, 5, 3, 172, 167, 4, 26, 43, 42, 21, 4, 4, 96, 46, 42, 21, 4, 5, 96, 46, 42, 21, 4]
abbrev dktL_law_43 : List UInt8 := dkwL_law_43 ++ dktL_law_44
def dkwL_law_42 : List UInt8 := [182, 0, 116, 21, 5, 159, 0, 5, 3, 172, 21, 5, 154, 0, 15, 45, 3, 47, 21, 6, 133, 148]
abbrev dktL_law_42 : List UInt8 := dkwL_law_42 ++ dktL_law_43
def dkwL_law_41 : List UInt8 := [184, 0, 172, 54, 5, 44, 42, 21, 4, 4, 96, 46, 42, 21, 4, 5, 96, 46, 182, 0, 174, 54, 6, 44]
abbrev dktL_law_41 : List UInt8 := dkwL_law_41 ++ dktL_law_42
def dkwL_law_40 : List UInt8 := [153, 0, 5, 3, 172, 167, 4, 94, 43, 42, 21, 4, 4, 96, 46, 42, 21, 4, 5, 96, 46, 45]
abbrev dktL_law_40 : List UInt8 := dkwL_law_40 ++ dktL_law_41
def dkwL_law_39 : List UInt8 := [182, 0, 116, 21, 5, 159, 0, 5, 3, 172, 21, 5, 154, 0, 15, 45, 3, 47, 21, 6, 133, 148]
abbrev dktL_law_39 : List UInt8 := dkwL_law_39 ++ dktL_law_40
def dkwL_law_38 : List UInt8 := [184, 0, 169, 54, 5, 44, 42, 21, 4, 4, 96, 46, 42, 21, 4, 5, 96, 46, 182, 0, 171, 54, 6, 44]
abbrev dktL_law_38 : List UInt8 := dkwL_law_38 ++ dktL_law_39
def dkwL_law_37 : List UInt8 := [148, 153, 0, 5, 3, 172, 167, 4, 162, 43, 42, 21, 4, 4, 96, 46, 42, 21, 4, 5, 96, 46, 45]
abbrev dktL_law_37 : List UInt8 := dkwL_law_37 ++ dktL_law_38
def dkwL_law_36 : List UInt8 := [54, 6, 44, 182, 0, 116, 21, 5, 159, 0, 5, 3, 172, 21, 5, 154, 0, 15, 45, 3, 47, 21, 6, 133]
abbrev dktL_law_36 : List UInt8 := dkwL_law_36 ++ dktL_law_37
def dkwL_law_35 : List UInt8 := [46, 45, 184, 0, 166, 54, 5, 44, 42, 21, 4, 4, 96, 46, 42, 21, 4, 5, 96, 46, 182, 0, 168]
abbrev dktL_law_35 : List UInt8 := dkwL_law_35 ++ dktL_law_36
def dkwL_law_34 : List UInt8 := [182, 0, 162, 44, 182, 0, 165, 159, 4, 232, 3, 172, 43, 42, 21, 4, 4, 96, 46, 42, 21, 4, 5, 96]
abbrev dktL_law_34 : List UInt8 := dkwL_law_34 ++ dktL_law_35
def dkwL_law_33 : List UInt8 := [172, 21, 5, 154, 0, 15, 45, 3, 47, 21, 6, 133, 148, 153, 0, 5, 3, 172, 167, 4, 243, 43]
abbrev dktL_law_33 : List UInt8 := dkwL_law_33 ++ dktL_law_34
def dkwL_law_32 : List UInt8 := [54, 5, 44, 42, 21, 4, 4, 96, 46, 182, 0, 161, 54, 6, 44, 182, 0, 116, 21, 5, 159, 0, 5, 3]
abbrev dktL_law_32 : List UInt8 := dkwL_law_32 ++ dktL_law_33
def dkwL_law_31 : List UInt8 := [182, 0, 155, 44, 182, 0, 158, 159, 5, 45, 3, 172, 43, 42, 21, 4, 4, 96, 46, 45, 184, 0, 159]
abbrev dktL_law_31 : List UInt8 := dkwL_law_31 ++ dktL_law_32
def dkwL_law_30 : List UInt8 := [21, 4, 4, 96, 46, 153, 0, 7, 4, 167, 0, 4, 3, 182, 0, 154, 159, 5, 58, 3, 172, 43]
abbrev dktL_law_30 : List UInt8 := dkwL_law_30 ++ dktL_law_31
def dkwL_law_29 : List UInt8 := [167, 5, 97, 43, 42, 21, 4, 4, 96, 46, 153, 0, 7, 4, 167, 0, 4, 3, 182, 0, 150, 44, 42]
abbrev dktL_law_29 : List UInt8 := dkwL_law_29 ++ dktL_law_30
def dkwL_law_28 : List UInt8 := [21, 5, 159, 0, 5, 3, 172, 21, 5, 154, 0, 15, 45, 3, 47, 21, 6, 133, 148, 153, 0, 5, 3, 172]
abbrev dktL_law_28 : List UInt8 := dkwL_law_28 ++ dktL_law_29
def dkwL_law_27 : List UInt8 := [46, 45, 184, 0, 147, 54, 5, 44, 42, 21, 4, 4, 96, 46, 182, 0, 149, 54, 6, 44, 182, 0, 116]
abbrev dktL_law_27 : List UInt8 := dkwL_law_27 ++ dktL_law_28
def dkwL_law_26 : List UInt8 := [154, 0, 15, 45, 3, 47, 21, 6, 133, 148, 153, 0, 5, 3, 172, 167, 5, 153, 43, 42, 21, 4, 4, 96]
abbrev dktL_law_26 : List UInt8 := dkwL_law_26 ++ dktL_law_27
def dkwL_law_25 : List UInt8 := [21, 4, 4, 96, 46, 182, 0, 146, 54, 6, 44, 182, 0, 116, 21, 5, 159, 0, 5, 3, 172, 21, 5]
abbrev dktL_law_25 : List UInt8 := dkwL_law_25 ++ dktL_law_26
def dkwL_law_24 : List UInt8 := [148, 153, 0, 5, 3, 172, 167, 5, 209, 43, 42, 21, 4, 4, 96, 46, 45, 184, 0, 144, 54, 5, 44, 42]
abbrev dktL_law_24 : List UInt8 := dkwL_law_24 ++ dktL_law_25
def dkwL_law_23 : List UInt8 := [54, 6, 44, 182, 0, 116, 21, 5, 159, 0, 5, 3, 172, 21, 5, 154, 0, 15, 45, 3, 47, 21, 6, 133]
abbrev dktL_law_23 : List UInt8 := dkwL_law_23 ++ dktL_law_24
def dkwL_law_22 : List UInt8 := [46, 45, 184, 0, 141, 54, 5, 44, 42, 21, 4, 4, 96, 46, 42, 21, 4, 5, 96, 46, 182, 0, 143]
abbrev dktL_law_22 : List UInt8 := dkwL_law_22 ++ dktL_law_23
def dkwL_law_21 : List UInt8 := [21, 6, 133, 148, 153, 0, 5, 3, 172, 167, 6, 21, 43, 42, 21, 4, 4, 96, 46, 42, 21, 4, 5, 96]
abbrev dktL_law_21 : List UInt8 := dkwL_law_21 ++ dktL_law_22
def dkwL_law_20 : List UInt8 := [182, 0, 140, 54, 6, 44, 182, 0, 116, 21, 5, 159, 0, 5, 3, 172, 21, 5, 154, 0, 15, 45, 3, 47]
abbrev dktL_law_20 : List UInt8 := dkwL_law_20 ++ dktL_law_21
def dkwL_law_19 : List UInt8 := [184, 0, 137, 54, 5, 44, 42, 21, 4, 4, 96, 46, 42, 21, 4, 5, 96, 46, 42, 21, 4, 6, 96, 46]
abbrev dktL_law_19 : List UInt8 := dkwL_law_19 ++ dktL_law_20
def dkwL_law_18 : List UInt8 := [167, 6, 101, 43, 42, 21, 4, 4, 96, 46, 42, 21, 4, 5, 96, 46, 42, 21, 4, 6, 96, 46, 45]
abbrev dktL_law_18 : List UInt8 := dkwL_law_18 ++ dktL_law_19
def dkwL_law_17 : List UInt8 := [159, 0, 5, 3, 172, 21, 5, 154, 0, 15, 45, 3, 47, 21, 6, 133, 148, 153, 0, 5, 3, 172]
abbrev dktL_law_17 : List UInt8 := dkwL_law_17 ++ dktL_law_18
def dkwL_law_16 : List UInt8 := [184, 0, 134, 54, 5, 44, 42, 21, 4, 4, 96, 46, 182, 0, 136, 54, 6, 44, 182, 0, 116, 21, 5]
abbrev dktL_law_16 : List UInt8 := dkwL_law_16 ++ dktL_law_17
def dkwL_law_15 : List UInt8 := [3, 47, 21, 6, 133, 148, 153, 0, 5, 3, 172, 167, 6, 157, 43, 42, 21, 4, 4, 96, 46, 45]
abbrev dktL_law_15 : List UInt8 := dkwL_law_15 ++ dktL_law_16
def dkwL_law_14 : List UInt8 := [96, 46, 182, 0, 133, 54, 6, 44, 182, 0, 116, 21, 5, 159, 0, 5, 3, 172, 21, 5, 154, 0, 15, 45]
abbrev dktL_law_14 : List UInt8 := dkwL_law_14 ++ dktL_law_15
def dkwL_law_13 : List UInt8 := [46, 42, 21, 4, 5, 96, 46, 45, 184, 0, 130, 54, 5, 44, 42, 21, 4, 4, 96, 46, 42, 21, 4, 5]
abbrev dktL_law_13 : List UInt8 := dkwL_law_13 ++ dktL_law_14
def dkwL_law_12 : List UInt8 := [154, 0, 15, 45, 3, 47, 21, 6, 133, 148, 153, 0, 5, 3, 172, 167, 6, 225, 43, 42, 21, 4, 4, 96]
abbrev dktL_law_12 : List UInt8 := dkwL_law_12 ++ dktL_law_13
def dkwL_law_11 : List UInt8 := [21, 4, 4, 96, 46, 182, 0, 129, 54, 6, 44, 182, 0, 116, 21, 5, 159, 0, 5, 3, 172, 21, 5]
abbrev dktL_law_11 : List UInt8 := dkwL_law_11 ++ dktL_law_12
def dkwL_law_10 : List UInt8 := [182, 0, 126, 159, 7, 27, 3, 172, 43, 42, 21, 4, 4, 96, 46, 45, 184, 0, 127, 54, 5, 44, 42]
abbrev dktL_law_10 : List UInt8 := dkwL_law_10 ++ dktL_law_11
def dkwL_law_9 : List UInt8 := [154, 0, 15, 45, 3, 47, 21, 6, 133, 148, 153, 0, 5, 3, 172, 167, 7, 38, 43, 182, 0, 123, 44]
abbrev dktL_law_9 : List UInt8 := dkwL_law_9 ++ dktL_law_10
def dkwL_law_8 : List UInt8 := [21, 4, 4, 96, 46, 182, 0, 122, 54, 6, 44, 182, 0, 116, 21, 5, 159, 0, 5, 3, 172, 21, 5]
abbrev dktL_law_8 : List UInt8 := dkwL_law_8 ++ dktL_law_9
def dkwL_law_7 : List UInt8 := [148, 153, 0, 5, 3, 172, 167, 7, 94, 43, 42, 21, 4, 4, 96, 46, 45, 184, 0, 119, 54, 5, 44, 42]
abbrev dktL_law_7 : List UInt8 := dkwL_law_7 ++ dktL_law_8
def dkwL_law_6 : List UInt8 := [54, 6, 44, 182, 0, 116, 21, 5, 159, 0, 5, 3, 172, 21, 5, 154, 0, 15, 45, 3, 47, 21, 6, 133]
abbrev dktL_law_6 : List UInt8 := dkwL_law_6 ++ dktL_law_7
def dkwL_law_5 : List UInt8 := [96, 46, 42, 21, 4, 6, 96, 46, 42, 21, 4, 7, 96, 46, 42, 21, 4, 8, 96, 46, 182, 0, 115]
abbrev dktL_law_5 : List UInt8 := dkwL_law_5 ++ dktL_law_6
def dkwL_law_4 : List UInt8 := [46, 42, 21, 4, 8, 96, 46, 45, 184, 0, 110, 54, 5, 44, 42, 21, 4, 4, 96, 46, 42, 21, 4, 5]
abbrev dktL_law_4 : List UInt8 := dkwL_law_4 ++ dktL_law_5
def dkwL_law_3 : List UInt8 := [43, 42, 21, 4, 4, 96, 46, 42, 21, 4, 5, 96, 46, 42, 21, 4, 6, 96, 46, 42, 21, 4, 7, 96]
abbrev dktL_law_3 : List UInt8 := dkwL_law_3 ++ dktL_law_4
def dkwL_law_2 : List UInt8 := [170, 0, 0, 0, 0, 0, 8, 119, 0, 0, 0, 0, 0, 0, 0, 40, 0, 0, 0, 180, 0, 0, 1, 28, 0, 0, 1, 84, 0, 0, 1, 97, 0, 0, 1, 153, 0, 0, 1, 221, 0, 0, 2, 21, 0, 0, 2, 101, 0, 0, 2, 169, 0, 0, 2, 225, 0, 0, 3, 25, 0, 0, 3, 66, 0, 0, 3, 79, 0, 0, 3, 135, 0, 0, 3, 148, 0, 0, 3, 216, 0, 0, 4, 28, 0, 0, 4, 96, 0, 0, 4, 176, 0, 0, 4, 232, 0, 0, 5, 44, 0, 0, 5, 100, 0, 0, 5, 168, 0, 0, 5, 181, 0, 0, 5, 194, 0, 0, 6, 6, 0, 0, 6, 19, 0, 0, 6, 32, 0, 0, 6, 75, 0, 0, 6, 131, 0, 0, 6, 187, 0, 0, 6, 200, 0, 0, 6, 213, 0, 0, 6, 226, 0, 0, 7, 26, 0, 0, 7, 82, 0, 0, 7, 150, 0, 0, 7, 163, 0, 0, 7, 219, 0, 0, 8, 7, 0, 0, 8, 63]
abbrev dktL_law_2 : List UInt8 := dkwL_law_2 ++ dktL_law_3
def dkwL_law_1 : List UInt8 := [21, 4, 42, 190, 16, 6, 100, 163, 8, 135, 42, 21, 4, 46, 16, 63, 126]
abbrev dktL_law_1 : List UInt8 := dkwL_law_1 ++ dktL_law_2
def dkwL_law_0 : List UInt8 := [187, 0, 8, 89, 183, 0, 106, 76, 187, 0, 107, 89, 183, 0, 109, 77, 4, 188, 11, 78, 3, 54, 4]
abbrev dktL_law_0 : List UInt8 := dkwL_law_0 ++ dktL_law_1
theorem dksL_law_0 : cL_law.data.toList.drop 0 = dktL_law_0 := by decide +kernel
theorem dksL_law_1 : cL_law.data.toList.drop 23 = dktL_law_1 := dk_seg dksL_law_0 23 rfl rfl
theorem dksL_law_2 : cL_law.data.toList.drop 40 = dktL_law_2 := dk_seg dksL_law_1 17 rfl rfl
theorem dksL_law_3 : cL_law.data.toList.drop 220 = dktL_law_3 := dk_seg dksL_law_2 180 rfl rfl
theorem dksL_law_4 : cL_law.data.toList.drop 244 = dktL_law_4 := dk_seg dksL_law_3 24 rfl rfl
theorem dksL_law_5 : cL_law.data.toList.drop 268 = dktL_law_5 := dk_seg dksL_law_4 24 rfl rfl
theorem dksL_law_6 : cL_law.data.toList.drop 291 = dktL_law_6 := dk_seg dksL_law_5 23 rfl rfl
theorem dksL_law_7 : cL_law.data.toList.drop 315 = dktL_law_7 := dk_seg dksL_law_6 24 rfl rfl
theorem dksL_law_8 : cL_law.data.toList.drop 339 = dktL_law_8 := dk_seg dksL_law_7 24 rfl rfl
theorem dksL_law_9 : cL_law.data.toList.drop 362 = dktL_law_9 := dk_seg dksL_law_8 23 rfl rfl
theorem dksL_law_10 : cL_law.data.toList.drop 385 = dktL_law_10 := dk_seg dksL_law_9 23 rfl rfl
theorem dksL_law_11 : cL_law.data.toList.drop 408 = dktL_law_11 := dk_seg dksL_law_10 23 rfl rfl
theorem dksL_law_12 : cL_law.data.toList.drop 431 = dktL_law_12 := dk_seg dksL_law_11 23 rfl rfl
theorem dksL_law_13 : cL_law.data.toList.drop 455 = dktL_law_13 := dk_seg dksL_law_12 24 rfl rfl
theorem dksL_law_14 : cL_law.data.toList.drop 479 = dktL_law_14 := dk_seg dksL_law_13 24 rfl rfl
theorem dksL_law_15 : cL_law.data.toList.drop 503 = dktL_law_15 := dk_seg dksL_law_14 24 rfl rfl
theorem dksL_law_16 : cL_law.data.toList.drop 525 = dktL_law_16 := dk_seg dksL_law_15 22 rfl rfl
theorem dksL_law_17 : cL_law.data.toList.drop 548 = dktL_law_17 := dk_seg dksL_law_16 23 rfl rfl
theorem dksL_law_18 : cL_law.data.toList.drop 570 = dktL_law_18 := dk_seg dksL_law_17 22 rfl rfl
theorem dksL_law_19 : cL_law.data.toList.drop 593 = dktL_law_19 := dk_seg dksL_law_18 23 rfl rfl
theorem dksL_law_20 : cL_law.data.toList.drop 617 = dktL_law_20 := dk_seg dksL_law_19 24 rfl rfl
theorem dksL_law_21 : cL_law.data.toList.drop 641 = dktL_law_21 := dk_seg dksL_law_20 24 rfl rfl
theorem dksL_law_22 : cL_law.data.toList.drop 665 = dktL_law_22 := dk_seg dksL_law_21 24 rfl rfl
theorem dksL_law_23 : cL_law.data.toList.drop 688 = dktL_law_23 := dk_seg dksL_law_22 23 rfl rfl
theorem dksL_law_24 : cL_law.data.toList.drop 712 = dktL_law_24 := dk_seg dksL_law_23 24 rfl rfl
theorem dksL_law_25 : cL_law.data.toList.drop 736 = dktL_law_25 := dk_seg dksL_law_24 24 rfl rfl
theorem dksL_law_26 : cL_law.data.toList.drop 759 = dktL_law_26 := dk_seg dksL_law_25 23 rfl rfl
theorem dksL_law_27 : cL_law.data.toList.drop 783 = dktL_law_27 := dk_seg dksL_law_26 24 rfl rfl
theorem dksL_law_28 : cL_law.data.toList.drop 806 = dktL_law_28 := dk_seg dksL_law_27 23 rfl rfl
theorem dksL_law_29 : cL_law.data.toList.drop 830 = dktL_law_29 := dk_seg dksL_law_28 24 rfl rfl
theorem dksL_law_30 : cL_law.data.toList.drop 853 = dktL_law_30 := dk_seg dksL_law_29 23 rfl rfl
theorem dksL_law_31 : cL_law.data.toList.drop 875 = dktL_law_31 := dk_seg dksL_law_30 22 rfl rfl
theorem dksL_law_32 : cL_law.data.toList.drop 898 = dktL_law_32 := dk_seg dksL_law_31 23 rfl rfl
theorem dksL_law_33 : cL_law.data.toList.drop 922 = dktL_law_33 := dk_seg dksL_law_32 24 rfl rfl
theorem dksL_law_34 : cL_law.data.toList.drop 944 = dktL_law_34 := dk_seg dksL_law_33 22 rfl rfl
theorem dksL_law_35 : cL_law.data.toList.drop 968 = dktL_law_35 := dk_seg dksL_law_34 24 rfl rfl
theorem dksL_law_36 : cL_law.data.toList.drop 991 = dktL_law_36 := dk_seg dksL_law_35 23 rfl rfl
theorem dksL_law_37 : cL_law.data.toList.drop 1015 = dktL_law_37 := dk_seg dksL_law_36 24 rfl rfl
theorem dksL_law_38 : cL_law.data.toList.drop 1038 = dktL_law_38 := dk_seg dksL_law_37 23 rfl rfl
theorem dksL_law_39 : cL_law.data.toList.drop 1062 = dktL_law_39 := dk_seg dksL_law_38 24 rfl rfl
theorem dksL_law_40 : cL_law.data.toList.drop 1084 = dktL_law_40 := dk_seg dksL_law_39 22 rfl rfl
theorem dksL_law_41 : cL_law.data.toList.drop 1106 = dktL_law_41 := dk_seg dksL_law_40 22 rfl rfl
theorem dksL_law_42 : cL_law.data.toList.drop 1130 = dktL_law_42 := dk_seg dksL_law_41 24 rfl rfl
theorem dksL_law_43 : cL_law.data.toList.drop 1152 = dktL_law_43 := dk_seg dksL_law_42 22 rfl rfl
theorem dksL_law_44 : cL_law.data.toList.drop 1176 = dktL_law_44 := dk_seg dksL_law_43 24 rfl rfl
theorem dksL_law_45 : cL_law.data.toList.drop 1199 = dktL_law_45 := dk_seg dksL_law_44 23 rfl rfl
theorem dksL_law_46 : cL_law.data.toList.drop 1222 = dktL_law_46 := dk_seg dksL_law_45 23 rfl rfl
theorem dksL_law_47 : cL_law.data.toList.drop 1246 = dktL_law_47 := dk_seg dksL_law_46 24 rfl rfl
theorem dksL_law_48 : cL_law.data.toList.drop 1269 = dktL_law_48 := dk_seg dksL_law_47 23 rfl rfl
theorem dksL_law_49 : cL_law.data.toList.drop 1293 = dktL_law_49 := dk_seg dksL_law_48 24 rfl rfl
theorem dksL_law_50 : cL_law.data.toList.drop 1317 = dktL_law_50 := dk_seg dksL_law_49 24 rfl rfl
theorem dksL_law_51 : cL_law.data.toList.drop 1339 = dktL_law_51 := dk_seg dksL_law_50 22 rfl rfl
theorem dksL_law_52 : cL_law.data.toList.drop 1361 = dktL_law_52 := dk_seg dksL_law_51 22 rfl rfl
theorem dksL_law_53 : cL_law.data.toList.drop 1384 = dktL_law_53 := dk_seg dksL_law_52 23 rfl rfl
theorem dksL_law_54 : cL_law.data.toList.drop 1408 = dktL_law_54 := dk_seg dksL_law_53 24 rfl rfl
theorem dksL_law_55 : cL_law.data.toList.drop 1432 = dktL_law_55 := dk_seg dksL_law_54 24 rfl rfl
theorem dksL_law_56 : cL_law.data.toList.drop 1455 = dktL_law_56 := dk_seg dksL_law_55 23 rfl rfl
theorem dksL_law_57 : cL_law.data.toList.drop 1479 = dktL_law_57 := dk_seg dksL_law_56 24 rfl rfl
theorem dksL_law_58 : cL_law.data.toList.drop 1502 = dktL_law_58 := dk_seg dksL_law_57 23 rfl rfl
theorem dksL_law_59 : cL_law.data.toList.drop 1526 = dktL_law_59 := dk_seg dksL_law_58 24 rfl rfl
theorem dksL_law_60 : cL_law.data.toList.drop 1549 = dktL_law_60 := dk_seg dksL_law_59 23 rfl rfl
theorem dksL_law_61 : cL_law.data.toList.drop 1573 = dktL_law_61 := dk_seg dksL_law_60 24 rfl rfl
theorem dksL_law_62 : cL_law.data.toList.drop 1596 = dktL_law_62 := dk_seg dksL_law_61 23 rfl rfl
theorem dksL_law_63 : cL_law.data.toList.drop 1620 = dktL_law_63 := dk_seg dksL_law_62 24 rfl rfl
theorem dksL_law_64 : cL_law.data.toList.drop 1643 = dktL_law_64 := dk_seg dksL_law_63 23 rfl rfl
theorem dksL_law_65 : cL_law.data.toList.drop 1666 = dktL_law_65 := dk_seg dksL_law_64 23 rfl rfl
theorem dksL_law_66 : cL_law.data.toList.drop 1689 = dktL_law_66 := dk_seg dksL_law_65 23 rfl rfl
theorem dksL_law_67 : cL_law.data.toList.drop 1713 = dktL_law_67 := dk_seg dksL_law_66 24 rfl rfl
theorem dksL_law_68 : cL_law.data.toList.drop 1736 = dktL_law_68 := dk_seg dksL_law_67 23 rfl rfl
theorem dksL_law_69 : cL_law.data.toList.drop 1760 = dktL_law_69 := dk_seg dksL_law_68 24 rfl rfl
theorem dksL_law_70 : cL_law.data.toList.drop 1784 = dktL_law_70 := dk_seg dksL_law_69 24 rfl rfl
theorem dksL_law_71 : cL_law.data.toList.drop 1808 = dktL_law_71 := dk_seg dksL_law_70 24 rfl rfl
theorem dksL_law_72 : cL_law.data.toList.drop 1831 = dktL_law_72 := dk_seg dksL_law_71 23 rfl rfl
theorem dksL_law_73 : cL_law.data.toList.drop 1855 = dktL_law_73 := dk_seg dksL_law_72 24 rfl rfl
theorem dksL_law_74 : cL_law.data.toList.drop 1878 = dktL_law_74 := dk_seg dksL_law_73 23 rfl rfl
theorem dksL_law_75 : cL_law.data.toList.drop 1902 = dktL_law_75 := dk_seg dksL_law_74 24 rfl rfl
theorem dksL_law_76 : cL_law.data.toList.drop 1926 = dktL_law_76 := dk_seg dksL_law_75 24 rfl rfl
theorem dksL_law_77 : cL_law.data.toList.drop 1949 = dktL_law_77 := dk_seg dksL_law_76 23 rfl rfl
theorem dksL_law_78 : cL_law.data.toList.drop 1973 = dktL_law_78 := dk_seg dksL_law_77 24 rfl rfl
theorem dksL_law_79 : cL_law.data.toList.drop 1997 = dktL_law_79 := dk_seg dksL_law_78 24 rfl rfl
theorem dksL_law_80 : cL_law.data.toList.drop 2021 = dktL_law_80 := dk_seg dksL_law_79 24 rfl rfl
theorem dksL_law_81 : cL_law.data.toList.drop 2043 = dktL_law_81 := dk_seg dksL_law_80 22 rfl rfl
theorem dksL_law_82 : cL_law.data.toList.drop 2065 = dktL_law_82 := dk_seg dksL_law_81 22 rfl rfl
theorem dksL_law_83 : cL_law.data.toList.drop 2087 = dktL_law_83 := dk_seg dksL_law_82 22 rfl rfl
theorem dksL_law_84 : cL_law.data.toList.drop 2110 = dktL_law_84 := dk_seg dksL_law_83 23 rfl rfl
theorem dksL_law_85 : cL_law.data.toList.drop 2133 = dktL_law_85 := dk_seg dksL_law_84 23 rfl rfl
theorem dksL_law_86 : cL_law.data.toList.drop 2157 = dktL_law_86 := dk_seg dksL_law_85 24 rfl rfl
theorem dksL_law_87 : cL_law.data.toList.drop 2180 = dktL_law_87 := dk_seg dksL_law_86 23 rfl rfl
theorem dksL_law_88 : cL_law.data.toList.drop 2204 = dktL_law_88 := dk_seg dksL_law_87 24 rfl rfl
theorem dL_law_0 : decode cL_law 0 = .ok (.new 8, 3) := dk_187 0 8 (dk_at dksL_law_0 0 rfl rfl)
theorem dL_law_3 : decode cL_law 3 = .ok (.dup, 1) := dk_89 (dk_at dksL_law_0 3 rfl rfl)
theorem dL_law_4 : decode cL_law 4 = .ok (.invokespecial 106, 3) := dk_183 0 106 (dk_at dksL_law_0 4 rfl rfl)
theorem dL_law_7 : decode cL_law 7 = .ok (.astore_n 1, 1) := dk_76 (dk_at dksL_law_0 7 rfl rfl)
theorem dL_law_8 : decode cL_law 8 = .ok (.new 107, 3) := dk_187 0 107 (dk_at dksL_law_0 8 rfl rfl)
theorem dL_law_11 : decode cL_law 11 = .ok (.dup, 1) := dk_89 (dk_at dksL_law_0 11 rfl rfl)
theorem dL_law_12 : decode cL_law 12 = .ok (.invokespecial 109, 3) := dk_183 0 109 (dk_at dksL_law_0 12 rfl rfl)
theorem dL_law_15 : decode cL_law 15 = .ok (.astore_n 2, 1) := dk_77 (dk_at dksL_law_0 15 rfl rfl)
theorem dL_law_16 : decode cL_law 16 = .ok (.iconst 1, 1) := dk_4 (dk_at dksL_law_0 16 rfl rfl)
theorem dL_law_17 : decode cL_law 17 = .ok (.newarray .long, 2) := dk_188_11 (dk_at dksL_law_0 17 rfl rfl)
theorem dL_law_19 : decode cL_law 19 = .ok (.astore_n 3, 1) := dk_78 (dk_at dksL_law_0 19 rfl rfl)
theorem dL_law_20 : decode cL_law 20 = .ok (.iconst 0, 1) := dk_3 (dk_at dksL_law_0 20 rfl rfl)
theorem dL_law_21 : decode cL_law 21 = .ok (.istore 4, 2) := dk_54 4 (dk_at dksL_law_0 21 rfl rfl)
theorem dL_law_23 : decode cL_law 23 = .ok (.iload 4, 2) := dk_21 4 (dk_at dksL_law_1 0 rfl rfl)
theorem dL_law_25 : decode cL_law 25 = .ok (.aload_n 0, 1) := dk_42 (dk_at dksL_law_1 2 rfl rfl)
theorem dL_law_26 : decode cL_law 26 = .ok (.arraylength, 1) := dk_190 (dk_at dksL_law_1 3 rfl rfl)
theorem dL_law_27 : decode cL_law 27 = .ok (.bipush 6, 2) := dk_16 6 (dk_at dksL_law_1 4 rfl rfl)
theorem dL_law_29 : decode cL_law 29 = .ok (.isub, 1) := dk_100 (dk_at dksL_law_1 6 rfl rfl)
theorem dL_law_30 : decode cL_law 30 = .ok (.if_icmp .gt 2183, 3) := dk_163 8 135 (dk_at dksL_law_1 7 rfl rfl)
theorem dL_law_33 : decode cL_law 33 = .ok (.aload_n 0, 1) := dk_42 (dk_at dksL_law_1 10 rfl rfl)
theorem dL_law_34 : decode cL_law 34 = .ok (.iload 4, 2) := dk_21 4 (dk_at dksL_law_1 11 rfl rfl)
theorem dL_law_36 : decode cL_law 36 = .ok (.iaload, 1) := dk_46 (dk_at dksL_law_1 13 rfl rfl)
theorem dL_law_37 : decode cL_law 37 = .ok (.bipush 63, 2) := dk_16 63 (dk_at dksL_law_1 14 rfl rfl)
theorem dL_law_39 : decode cL_law 39 = .ok (.iand, 1) := dk_126 (dk_at dksL_law_1 16 rfl rfl)
theorem dL_law_40 : decode cL_law 40 = .ok (.tableswitch 2167 0 40 #[180, 284, 340, 353, 409, 477, 533, 613, 681, 737, 793, 834, 847, 903, 916, 984, 1052, 1120, 1200, 1256, 1324, 1380, 1448, 1461, 1474, 1542, 1555, 1568, 1611, 1667, 1723, 1736, 1749, 1762, 1818, 1874, 1942, 1955, 2011, 2055, 2111], 180) := by decide +kernel
theorem dL_law_220 : decode cL_law 220 = .ok (.aload_n 1, 1) := dk_43 (dk_at dksL_law_3 0 rfl rfl)
theorem dL_law_221 : decode cL_law 221 = .ok (.aload_n 0, 1) := dk_42 (dk_at dksL_law_3 1 rfl rfl)
theorem dL_law_222 : decode cL_law 222 = .ok (.iload 4, 2) := dk_21 4 (dk_at dksL_law_3 2 rfl rfl)
theorem dL_law_224 : decode cL_law 224 = .ok (.iconst 1, 1) := dk_4 (dk_at dksL_law_3 4 rfl rfl)
theorem dL_law_225 : decode cL_law 225 = .ok (.iadd, 1) := dk_96 (dk_at dksL_law_3 5 rfl rfl)
theorem dL_law_226 : decode cL_law 226 = .ok (.iaload, 1) := dk_46 (dk_at dksL_law_3 6 rfl rfl)
theorem dL_law_227 : decode cL_law 227 = .ok (.aload_n 0, 1) := dk_42 (dk_at dksL_law_3 7 rfl rfl)
theorem dL_law_228 : decode cL_law 228 = .ok (.iload 4, 2) := dk_21 4 (dk_at dksL_law_3 8 rfl rfl)
theorem dL_law_230 : decode cL_law 230 = .ok (.iconst 2, 1) := dk_5 (dk_at dksL_law_3 10 rfl rfl)
theorem dL_law_231 : decode cL_law 231 = .ok (.iadd, 1) := dk_96 (dk_at dksL_law_3 11 rfl rfl)
theorem dL_law_232 : decode cL_law 232 = .ok (.iaload, 1) := dk_46 (dk_at dksL_law_3 12 rfl rfl)
theorem dL_law_233 : decode cL_law 233 = .ok (.aload_n 0, 1) := dk_42 (dk_at dksL_law_3 13 rfl rfl)
theorem dL_law_234 : decode cL_law 234 = .ok (.iload 4, 2) := dk_21 4 (dk_at dksL_law_3 14 rfl rfl)
theorem dL_law_236 : decode cL_law 236 = .ok (.iconst 3, 1) := dk_6 (dk_at dksL_law_3 16 rfl rfl)
theorem dL_law_237 : decode cL_law 237 = .ok (.iadd, 1) := dk_96 (dk_at dksL_law_3 17 rfl rfl)
theorem dL_law_238 : decode cL_law 238 = .ok (.iaload, 1) := dk_46 (dk_at dksL_law_3 18 rfl rfl)
theorem dL_law_239 : decode cL_law 239 = .ok (.aload_n 0, 1) := dk_42 (dk_at dksL_law_3 19 rfl rfl)
theorem dL_law_240 : decode cL_law 240 = .ok (.iload 4, 2) := dk_21 4 (dk_at dksL_law_3 20 rfl rfl)
theorem dL_law_242 : decode cL_law 242 = .ok (.iconst 4, 1) := dk_7 (dk_at dksL_law_3 22 rfl rfl)
theorem dL_law_243 : decode cL_law 243 = .ok (.iadd, 1) := dk_96 (dk_at dksL_law_3 23 rfl rfl)
theorem dL_law_244 : decode cL_law 244 = .ok (.iaload, 1) := dk_46 (dk_at dksL_law_4 0 rfl rfl)
theorem dL_law_245 : decode cL_law 245 = .ok (.aload_n 0, 1) := dk_42 (dk_at dksL_law_4 1 rfl rfl)
theorem dL_law_246 : decode cL_law 246 = .ok (.iload 4, 2) := dk_21 4 (dk_at dksL_law_4 2 rfl rfl)
theorem dL_law_248 : decode cL_law 248 = .ok (.iconst 5, 1) := dk_8 (dk_at dksL_law_4 4 rfl rfl)
theorem dL_law_249 : decode cL_law 249 = .ok (.iadd, 1) := dk_96 (dk_at dksL_law_4 5 rfl rfl)
theorem dL_law_250 : decode cL_law 250 = .ok (.iaload, 1) := dk_46 (dk_at dksL_law_4 6 rfl rfl)
theorem dL_law_251 : decode cL_law 251 = .ok (.aload_n 3, 1) := dk_45 (dk_at dksL_law_4 7 rfl rfl)
theorem dL_law_252 : decode cL_law 252 = .ok (.invokestatic 110, 3) := dk_184 0 110 (dk_at dksL_law_4 8 rfl rfl)
theorem dL_law_255 : decode cL_law 255 = .ok (.istore 5, 2) := dk_54 5 (dk_at dksL_law_4 11 rfl rfl)
theorem dL_law_257 : decode cL_law 257 = .ok (.aload_n 2, 1) := dk_44 (dk_at dksL_law_4 13 rfl rfl)
theorem dL_law_258 : decode cL_law 258 = .ok (.aload_n 0, 1) := dk_42 (dk_at dksL_law_4 14 rfl rfl)
theorem dL_law_259 : decode cL_law 259 = .ok (.iload 4, 2) := dk_21 4 (dk_at dksL_law_4 15 rfl rfl)
theorem dL_law_261 : decode cL_law 261 = .ok (.iconst 1, 1) := dk_4 (dk_at dksL_law_4 17 rfl rfl)
theorem dL_law_262 : decode cL_law 262 = .ok (.iadd, 1) := dk_96 (dk_at dksL_law_4 18 rfl rfl)
theorem dL_law_263 : decode cL_law 263 = .ok (.iaload, 1) := dk_46 (dk_at dksL_law_4 19 rfl rfl)
theorem dL_law_264 : decode cL_law 264 = .ok (.aload_n 0, 1) := dk_42 (dk_at dksL_law_4 20 rfl rfl)
theorem dL_law_265 : decode cL_law 265 = .ok (.iload 4, 2) := dk_21 4 (dk_at dksL_law_4 21 rfl rfl)
theorem dL_law_267 : decode cL_law 267 = .ok (.iconst 2, 1) := dk_5 (dk_at dksL_law_4 23 rfl rfl)
theorem dL_law_268 : decode cL_law 268 = .ok (.iadd, 1) := dk_96 (dk_at dksL_law_5 0 rfl rfl)
theorem dL_law_269 : decode cL_law 269 = .ok (.iaload, 1) := dk_46 (dk_at dksL_law_5 1 rfl rfl)
theorem dL_law_270 : decode cL_law 270 = .ok (.aload_n 0, 1) := dk_42 (dk_at dksL_law_5 2 rfl rfl)
theorem dL_law_271 : decode cL_law 271 = .ok (.iload 4, 2) := dk_21 4 (dk_at dksL_law_5 3 rfl rfl)
theorem dL_law_273 : decode cL_law 273 = .ok (.iconst 3, 1) := dk_6 (dk_at dksL_law_5 5 rfl rfl)
theorem dL_law_274 : decode cL_law 274 = .ok (.iadd, 1) := dk_96 (dk_at dksL_law_5 6 rfl rfl)
theorem dL_law_275 : decode cL_law 275 = .ok (.iaload, 1) := dk_46 (dk_at dksL_law_5 7 rfl rfl)
theorem dL_law_276 : decode cL_law 276 = .ok (.aload_n 0, 1) := dk_42 (dk_at dksL_law_5 8 rfl rfl)
theorem dL_law_277 : decode cL_law 277 = .ok (.iload 4, 2) := dk_21 4 (dk_at dksL_law_5 9 rfl rfl)
theorem dL_law_279 : decode cL_law 279 = .ok (.iconst 4, 1) := dk_7 (dk_at dksL_law_5 11 rfl rfl)
theorem dL_law_280 : decode cL_law 280 = .ok (.iadd, 1) := dk_96 (dk_at dksL_law_5 12 rfl rfl)
theorem dL_law_281 : decode cL_law 281 = .ok (.iaload, 1) := dk_46 (dk_at dksL_law_5 13 rfl rfl)
theorem dL_law_282 : decode cL_law 282 = .ok (.aload_n 0, 1) := dk_42 (dk_at dksL_law_5 14 rfl rfl)
theorem dL_law_283 : decode cL_law 283 = .ok (.iload 4, 2) := dk_21 4 (dk_at dksL_law_5 15 rfl rfl)
theorem dL_law_285 : decode cL_law 285 = .ok (.iconst 5, 1) := dk_8 (dk_at dksL_law_5 17 rfl rfl)
theorem dL_law_286 : decode cL_law 286 = .ok (.iadd, 1) := dk_96 (dk_at dksL_law_5 18 rfl rfl)
theorem dL_law_287 : decode cL_law 287 = .ok (.iaload, 1) := dk_46 (dk_at dksL_law_5 19 rfl rfl)
theorem dL_law_288 : decode cL_law 288 = .ok (.invokevirtual 115, 3) := dk_182 0 115 (dk_at dksL_law_5 20 rfl rfl)
theorem dL_law_291 : decode cL_law 291 = .ok (.istore 6, 2) := dk_54 6 (dk_at dksL_law_6 0 rfl rfl)
theorem dL_law_293 : decode cL_law 293 = .ok (.aload_n 2, 1) := dk_44 (dk_at dksL_law_6 2 rfl rfl)
theorem dL_law_294 : decode cL_law 294 = .ok (.invokevirtual 116, 3) := dk_182 0 116 (dk_at dksL_law_6 3 rfl rfl)
theorem dL_law_297 : decode cL_law 297 = .ok (.iload 5, 2) := dk_21 5 (dk_at dksL_law_6 6 rfl rfl)
theorem dL_law_299 : decode cL_law 299 = .ok (.if_icmp .eq 5, 3) := dk_159 0 5 (dk_at dksL_law_6 8 rfl rfl)
theorem dL_law_302 : decode cL_law 302 = .ok (.iconst 0, 1) := dk_3 (dk_at dksL_law_6 11 rfl rfl)
theorem dL_law_303 : decode cL_law 303 = .ok (.ireturn, 1) := dk_172 (dk_at dksL_law_6 12 rfl rfl)
theorem dL_law_304 : decode cL_law 304 = .ok (.iload 5, 2) := dk_21 5 (dk_at dksL_law_6 13 rfl rfl)
theorem dL_law_306 : decode cL_law 306 = .ok (.ifCond .ne 15, 3) := dk_154 0 15 (dk_at dksL_law_6 15 rfl rfl)
theorem dL_law_309 : decode cL_law 309 = .ok (.aload_n 3, 1) := dk_45 (dk_at dksL_law_6 18 rfl rfl)
theorem dL_law_310 : decode cL_law 310 = .ok (.iconst 0, 1) := dk_3 (dk_at dksL_law_6 19 rfl rfl)
theorem dL_law_311 : decode cL_law 311 = .ok (.laload, 1) := dk_47 (dk_at dksL_law_6 20 rfl rfl)
theorem dL_law_312 : decode cL_law 312 = .ok (.iload 6, 2) := dk_21 6 (dk_at dksL_law_6 21 rfl rfl)
theorem dL_law_314 : decode cL_law 314 = .ok (.i2l, 1) := dk_133 (dk_at dksL_law_6 23 rfl rfl)
theorem dL_law_315 : decode cL_law 315 = .ok (.lcmp, 1) := dk_148 (dk_at dksL_law_7 0 rfl rfl)
theorem dL_law_316 : decode cL_law 316 = .ok (.ifCond .eq 5, 3) := dk_153 0 5 (dk_at dksL_law_7 1 rfl rfl)
theorem dL_law_319 : decode cL_law 319 = .ok (.iconst 0, 1) := dk_3 (dk_at dksL_law_7 4 rfl rfl)
theorem dL_law_320 : decode cL_law 320 = .ok (.ireturn, 1) := dk_172 (dk_at dksL_law_7 5 rfl rfl)
theorem dL_law_321 : decode cL_law 321 = .ok (.goto 1886, 3) := dk_167 7 94 (dk_at dksL_law_7 6 rfl rfl)
theorem dL_law_324 : decode cL_law 324 = .ok (.aload_n 1, 1) := dk_43 (dk_at dksL_law_7 9 rfl rfl)
theorem dL_law_325 : decode cL_law 325 = .ok (.aload_n 0, 1) := dk_42 (dk_at dksL_law_7 10 rfl rfl)
theorem dL_law_326 : decode cL_law 326 = .ok (.iload 4, 2) := dk_21 4 (dk_at dksL_law_7 11 rfl rfl)
theorem dL_law_328 : decode cL_law 328 = .ok (.iconst 1, 1) := dk_4 (dk_at dksL_law_7 13 rfl rfl)
theorem dL_law_329 : decode cL_law 329 = .ok (.iadd, 1) := dk_96 (dk_at dksL_law_7 14 rfl rfl)
theorem dL_law_330 : decode cL_law 330 = .ok (.iaload, 1) := dk_46 (dk_at dksL_law_7 15 rfl rfl)
theorem dL_law_331 : decode cL_law 331 = .ok (.aload_n 3, 1) := dk_45 (dk_at dksL_law_7 16 rfl rfl)
theorem dL_law_332 : decode cL_law 332 = .ok (.invokestatic 119, 3) := dk_184 0 119 (dk_at dksL_law_7 17 rfl rfl)
theorem dL_law_335 : decode cL_law 335 = .ok (.istore 5, 2) := dk_54 5 (dk_at dksL_law_7 20 rfl rfl)
theorem dL_law_337 : decode cL_law 337 = .ok (.aload_n 2, 1) := dk_44 (dk_at dksL_law_7 22 rfl rfl)
theorem dL_law_338 : decode cL_law 338 = .ok (.aload_n 0, 1) := dk_42 (dk_at dksL_law_7 23 rfl rfl)
theorem dL_law_339 : decode cL_law 339 = .ok (.iload 4, 2) := dk_21 4 (dk_at dksL_law_8 0 rfl rfl)
theorem dL_law_341 : decode cL_law 341 = .ok (.iconst 1, 1) := dk_4 (dk_at dksL_law_8 2 rfl rfl)
theorem dL_law_342 : decode cL_law 342 = .ok (.iadd, 1) := dk_96 (dk_at dksL_law_8 3 rfl rfl)
theorem dL_law_343 : decode cL_law 343 = .ok (.iaload, 1) := dk_46 (dk_at dksL_law_8 4 rfl rfl)
theorem dL_law_344 : decode cL_law 344 = .ok (.invokevirtual 122, 3) := dk_182 0 122 (dk_at dksL_law_8 5 rfl rfl)
theorem dL_law_347 : decode cL_law 347 = .ok (.istore 6, 2) := dk_54 6 (dk_at dksL_law_8 8 rfl rfl)
theorem dL_law_349 : decode cL_law 349 = .ok (.aload_n 2, 1) := dk_44 (dk_at dksL_law_8 10 rfl rfl)
theorem dL_law_350 : decode cL_law 350 = .ok (.invokevirtual 116, 3) := dk_182 0 116 (dk_at dksL_law_8 11 rfl rfl)
theorem dL_law_353 : decode cL_law 353 = .ok (.iload 5, 2) := dk_21 5 (dk_at dksL_law_8 14 rfl rfl)
theorem dL_law_355 : decode cL_law 355 = .ok (.if_icmp .eq 5, 3) := dk_159 0 5 (dk_at dksL_law_8 16 rfl rfl)
theorem dL_law_358 : decode cL_law 358 = .ok (.iconst 0, 1) := dk_3 (dk_at dksL_law_8 19 rfl rfl)
theorem dL_law_359 : decode cL_law 359 = .ok (.ireturn, 1) := dk_172 (dk_at dksL_law_8 20 rfl rfl)
theorem dL_law_360 : decode cL_law 360 = .ok (.iload 5, 2) := dk_21 5 (dk_at dksL_law_8 21 rfl rfl)
theorem dL_law_362 : decode cL_law 362 = .ok (.ifCond .ne 15, 3) := dk_154 0 15 (dk_at dksL_law_9 0 rfl rfl)
theorem dL_law_365 : decode cL_law 365 = .ok (.aload_n 3, 1) := dk_45 (dk_at dksL_law_9 3 rfl rfl)
theorem dL_law_366 : decode cL_law 366 = .ok (.iconst 0, 1) := dk_3 (dk_at dksL_law_9 4 rfl rfl)
theorem dL_law_367 : decode cL_law 367 = .ok (.laload, 1) := dk_47 (dk_at dksL_law_9 5 rfl rfl)
theorem dL_law_368 : decode cL_law 368 = .ok (.iload 6, 2) := dk_21 6 (dk_at dksL_law_9 6 rfl rfl)
theorem dL_law_370 : decode cL_law 370 = .ok (.i2l, 1) := dk_133 (dk_at dksL_law_9 8 rfl rfl)
theorem dL_law_371 : decode cL_law 371 = .ok (.lcmp, 1) := dk_148 (dk_at dksL_law_9 9 rfl rfl)
theorem dL_law_372 : decode cL_law 372 = .ok (.ifCond .eq 5, 3) := dk_153 0 5 (dk_at dksL_law_9 10 rfl rfl)
theorem dL_law_375 : decode cL_law 375 = .ok (.iconst 0, 1) := dk_3 (dk_at dksL_law_9 13 rfl rfl)
theorem dL_law_376 : decode cL_law 376 = .ok (.ireturn, 1) := dk_172 (dk_at dksL_law_9 14 rfl rfl)
theorem dL_law_377 : decode cL_law 377 = .ok (.goto 1830, 3) := dk_167 7 38 (dk_at dksL_law_9 15 rfl rfl)
theorem dL_law_380 : decode cL_law 380 = .ok (.aload_n 1, 1) := dk_43 (dk_at dksL_law_9 18 rfl rfl)
theorem dL_law_381 : decode cL_law 381 = .ok (.invokevirtual 123, 3) := dk_182 0 123 (dk_at dksL_law_9 19 rfl rfl)
theorem dL_law_384 : decode cL_law 384 = .ok (.aload_n 2, 1) := dk_44 (dk_at dksL_law_9 22 rfl rfl)
theorem dL_law_385 : decode cL_law 385 = .ok (.invokevirtual 126, 3) := dk_182 0 126 (dk_at dksL_law_10 0 rfl rfl)
theorem dL_law_388 : decode cL_law 388 = .ok (.if_icmp .eq 1819, 3) := dk_159 7 27 (dk_at dksL_law_10 3 rfl rfl)
theorem dL_law_391 : decode cL_law 391 = .ok (.iconst 0, 1) := dk_3 (dk_at dksL_law_10 6 rfl rfl)
theorem dL_law_392 : decode cL_law 392 = .ok (.ireturn, 1) := dk_172 (dk_at dksL_law_10 7 rfl rfl)
theorem dL_law_393 : decode cL_law 393 = .ok (.aload_n 1, 1) := dk_43 (dk_at dksL_law_10 8 rfl rfl)
theorem dL_law_394 : decode cL_law 394 = .ok (.aload_n 0, 1) := dk_42 (dk_at dksL_law_10 9 rfl rfl)
theorem dL_law_395 : decode cL_law 395 = .ok (.iload 4, 2) := dk_21 4 (dk_at dksL_law_10 10 rfl rfl)
theorem dL_law_397 : decode cL_law 397 = .ok (.iconst 1, 1) := dk_4 (dk_at dksL_law_10 12 rfl rfl)
theorem dL_law_398 : decode cL_law 398 = .ok (.iadd, 1) := dk_96 (dk_at dksL_law_10 13 rfl rfl)
theorem dL_law_399 : decode cL_law 399 = .ok (.iaload, 1) := dk_46 (dk_at dksL_law_10 14 rfl rfl)
theorem dL_law_400 : decode cL_law 400 = .ok (.aload_n 3, 1) := dk_45 (dk_at dksL_law_10 15 rfl rfl)
theorem dL_law_401 : decode cL_law 401 = .ok (.invokestatic 127, 3) := dk_184 0 127 (dk_at dksL_law_10 16 rfl rfl)
theorem dL_law_404 : decode cL_law 404 = .ok (.istore 5, 2) := dk_54 5 (dk_at dksL_law_10 19 rfl rfl)
theorem dL_law_406 : decode cL_law 406 = .ok (.aload_n 2, 1) := dk_44 (dk_at dksL_law_10 21 rfl rfl)
theorem dL_law_407 : decode cL_law 407 = .ok (.aload_n 0, 1) := dk_42 (dk_at dksL_law_10 22 rfl rfl)
theorem dL_law_408 : decode cL_law 408 = .ok (.iload 4, 2) := dk_21 4 (dk_at dksL_law_11 0 rfl rfl)
theorem dL_law_410 : decode cL_law 410 = .ok (.iconst 1, 1) := dk_4 (dk_at dksL_law_11 2 rfl rfl)
theorem dL_law_411 : decode cL_law 411 = .ok (.iadd, 1) := dk_96 (dk_at dksL_law_11 3 rfl rfl)
theorem dL_law_412 : decode cL_law 412 = .ok (.iaload, 1) := dk_46 (dk_at dksL_law_11 4 rfl rfl)
theorem dL_law_413 : decode cL_law 413 = .ok (.invokevirtual 129, 3) := dk_182 0 129 (dk_at dksL_law_11 5 rfl rfl)
theorem dL_law_416 : decode cL_law 416 = .ok (.istore 6, 2) := dk_54 6 (dk_at dksL_law_11 8 rfl rfl)
theorem dL_law_418 : decode cL_law 418 = .ok (.aload_n 2, 1) := dk_44 (dk_at dksL_law_11 10 rfl rfl)
theorem dL_law_419 : decode cL_law 419 = .ok (.invokevirtual 116, 3) := dk_182 0 116 (dk_at dksL_law_11 11 rfl rfl)
theorem dL_law_422 : decode cL_law 422 = .ok (.iload 5, 2) := dk_21 5 (dk_at dksL_law_11 14 rfl rfl)
theorem dL_law_424 : decode cL_law 424 = .ok (.if_icmp .eq 5, 3) := dk_159 0 5 (dk_at dksL_law_11 16 rfl rfl)
theorem dL_law_427 : decode cL_law 427 = .ok (.iconst 0, 1) := dk_3 (dk_at dksL_law_11 19 rfl rfl)
theorem dL_law_428 : decode cL_law 428 = .ok (.ireturn, 1) := dk_172 (dk_at dksL_law_11 20 rfl rfl)
theorem dL_law_429 : decode cL_law 429 = .ok (.iload 5, 2) := dk_21 5 (dk_at dksL_law_11 21 rfl rfl)
theorem dL_law_431 : decode cL_law 431 = .ok (.ifCond .ne 15, 3) := dk_154 0 15 (dk_at dksL_law_12 0 rfl rfl)
theorem dL_law_434 : decode cL_law 434 = .ok (.aload_n 3, 1) := dk_45 (dk_at dksL_law_12 3 rfl rfl)
theorem dL_law_435 : decode cL_law 435 = .ok (.iconst 0, 1) := dk_3 (dk_at dksL_law_12 4 rfl rfl)
theorem dL_law_436 : decode cL_law 436 = .ok (.laload, 1) := dk_47 (dk_at dksL_law_12 5 rfl rfl)
theorem dL_law_437 : decode cL_law 437 = .ok (.iload 6, 2) := dk_21 6 (dk_at dksL_law_12 6 rfl rfl)
theorem dL_law_439 : decode cL_law 439 = .ok (.i2l, 1) := dk_133 (dk_at dksL_law_12 8 rfl rfl)
theorem dL_law_440 : decode cL_law 440 = .ok (.lcmp, 1) := dk_148 (dk_at dksL_law_12 9 rfl rfl)
theorem dL_law_441 : decode cL_law 441 = .ok (.ifCond .eq 5, 3) := dk_153 0 5 (dk_at dksL_law_12 10 rfl rfl)
theorem dL_law_444 : decode cL_law 444 = .ok (.iconst 0, 1) := dk_3 (dk_at dksL_law_12 13 rfl rfl)
theorem dL_law_445 : decode cL_law 445 = .ok (.ireturn, 1) := dk_172 (dk_at dksL_law_12 14 rfl rfl)
theorem dL_law_446 : decode cL_law 446 = .ok (.goto 1761, 3) := dk_167 6 225 (dk_at dksL_law_12 15 rfl rfl)
theorem dL_law_449 : decode cL_law 449 = .ok (.aload_n 1, 1) := dk_43 (dk_at dksL_law_12 18 rfl rfl)
theorem dL_law_450 : decode cL_law 450 = .ok (.aload_n 0, 1) := dk_42 (dk_at dksL_law_12 19 rfl rfl)
theorem dL_law_451 : decode cL_law 451 = .ok (.iload 4, 2) := dk_21 4 (dk_at dksL_law_12 20 rfl rfl)
theorem dL_law_453 : decode cL_law 453 = .ok (.iconst 1, 1) := dk_4 (dk_at dksL_law_12 22 rfl rfl)
theorem dL_law_454 : decode cL_law 454 = .ok (.iadd, 1) := dk_96 (dk_at dksL_law_12 23 rfl rfl)
theorem dL_law_455 : decode cL_law 455 = .ok (.iaload, 1) := dk_46 (dk_at dksL_law_13 0 rfl rfl)
theorem dL_law_456 : decode cL_law 456 = .ok (.aload_n 0, 1) := dk_42 (dk_at dksL_law_13 1 rfl rfl)
theorem dL_law_457 : decode cL_law 457 = .ok (.iload 4, 2) := dk_21 4 (dk_at dksL_law_13 2 rfl rfl)
theorem dL_law_459 : decode cL_law 459 = .ok (.iconst 2, 1) := dk_5 (dk_at dksL_law_13 4 rfl rfl)
theorem dL_law_460 : decode cL_law 460 = .ok (.iadd, 1) := dk_96 (dk_at dksL_law_13 5 rfl rfl)
theorem dL_law_461 : decode cL_law 461 = .ok (.iaload, 1) := dk_46 (dk_at dksL_law_13 6 rfl rfl)
theorem dL_law_462 : decode cL_law 462 = .ok (.aload_n 3, 1) := dk_45 (dk_at dksL_law_13 7 rfl rfl)
theorem dL_law_463 : decode cL_law 463 = .ok (.invokestatic 130, 3) := dk_184 0 130 (dk_at dksL_law_13 8 rfl rfl)
theorem dL_law_466 : decode cL_law 466 = .ok (.istore 5, 2) := dk_54 5 (dk_at dksL_law_13 11 rfl rfl)
theorem dL_law_468 : decode cL_law 468 = .ok (.aload_n 2, 1) := dk_44 (dk_at dksL_law_13 13 rfl rfl)
theorem dL_law_469 : decode cL_law 469 = .ok (.aload_n 0, 1) := dk_42 (dk_at dksL_law_13 14 rfl rfl)
theorem dL_law_470 : decode cL_law 470 = .ok (.iload 4, 2) := dk_21 4 (dk_at dksL_law_13 15 rfl rfl)
theorem dL_law_472 : decode cL_law 472 = .ok (.iconst 1, 1) := dk_4 (dk_at dksL_law_13 17 rfl rfl)
theorem dL_law_473 : decode cL_law 473 = .ok (.iadd, 1) := dk_96 (dk_at dksL_law_13 18 rfl rfl)
theorem dL_law_474 : decode cL_law 474 = .ok (.iaload, 1) := dk_46 (dk_at dksL_law_13 19 rfl rfl)
theorem dL_law_475 : decode cL_law 475 = .ok (.aload_n 0, 1) := dk_42 (dk_at dksL_law_13 20 rfl rfl)
theorem dL_law_476 : decode cL_law 476 = .ok (.iload 4, 2) := dk_21 4 (dk_at dksL_law_13 21 rfl rfl)
theorem dL_law_478 : decode cL_law 478 = .ok (.iconst 2, 1) := dk_5 (dk_at dksL_law_13 23 rfl rfl)
theorem dL_law_479 : decode cL_law 479 = .ok (.iadd, 1) := dk_96 (dk_at dksL_law_14 0 rfl rfl)
theorem dL_law_480 : decode cL_law 480 = .ok (.iaload, 1) := dk_46 (dk_at dksL_law_14 1 rfl rfl)
theorem dL_law_481 : decode cL_law 481 = .ok (.invokevirtual 133, 3) := dk_182 0 133 (dk_at dksL_law_14 2 rfl rfl)
theorem dL_law_484 : decode cL_law 484 = .ok (.istore 6, 2) := dk_54 6 (dk_at dksL_law_14 5 rfl rfl)
theorem dL_law_486 : decode cL_law 486 = .ok (.aload_n 2, 1) := dk_44 (dk_at dksL_law_14 7 rfl rfl)
theorem dL_law_487 : decode cL_law 487 = .ok (.invokevirtual 116, 3) := dk_182 0 116 (dk_at dksL_law_14 8 rfl rfl)
theorem dL_law_490 : decode cL_law 490 = .ok (.iload 5, 2) := dk_21 5 (dk_at dksL_law_14 11 rfl rfl)
theorem dL_law_492 : decode cL_law 492 = .ok (.if_icmp .eq 5, 3) := dk_159 0 5 (dk_at dksL_law_14 13 rfl rfl)
theorem dL_law_495 : decode cL_law 495 = .ok (.iconst 0, 1) := dk_3 (dk_at dksL_law_14 16 rfl rfl)
theorem dL_law_496 : decode cL_law 496 = .ok (.ireturn, 1) := dk_172 (dk_at dksL_law_14 17 rfl rfl)
theorem dL_law_497 : decode cL_law 497 = .ok (.iload 5, 2) := dk_21 5 (dk_at dksL_law_14 18 rfl rfl)
theorem dL_law_499 : decode cL_law 499 = .ok (.ifCond .ne 15, 3) := dk_154 0 15 (dk_at dksL_law_14 20 rfl rfl)
theorem dL_law_502 : decode cL_law 502 = .ok (.aload_n 3, 1) := dk_45 (dk_at dksL_law_14 23 rfl rfl)
theorem dL_law_503 : decode cL_law 503 = .ok (.iconst 0, 1) := dk_3 (dk_at dksL_law_15 0 rfl rfl)
theorem dL_law_504 : decode cL_law 504 = .ok (.laload, 1) := dk_47 (dk_at dksL_law_15 1 rfl rfl)
theorem dL_law_505 : decode cL_law 505 = .ok (.iload 6, 2) := dk_21 6 (dk_at dksL_law_15 2 rfl rfl)
theorem dL_law_507 : decode cL_law 507 = .ok (.i2l, 1) := dk_133 (dk_at dksL_law_15 4 rfl rfl)
theorem dL_law_508 : decode cL_law 508 = .ok (.lcmp, 1) := dk_148 (dk_at dksL_law_15 5 rfl rfl)
theorem dL_law_509 : decode cL_law 509 = .ok (.ifCond .eq 5, 3) := dk_153 0 5 (dk_at dksL_law_15 6 rfl rfl)
theorem dL_law_512 : decode cL_law 512 = .ok (.iconst 0, 1) := dk_3 (dk_at dksL_law_15 9 rfl rfl)
theorem dL_law_513 : decode cL_law 513 = .ok (.ireturn, 1) := dk_172 (dk_at dksL_law_15 10 rfl rfl)
theorem dL_law_514 : decode cL_law 514 = .ok (.goto 1693, 3) := dk_167 6 157 (dk_at dksL_law_15 11 rfl rfl)
theorem dL_law_517 : decode cL_law 517 = .ok (.aload_n 1, 1) := dk_43 (dk_at dksL_law_15 14 rfl rfl)
theorem dL_law_518 : decode cL_law 518 = .ok (.aload_n 0, 1) := dk_42 (dk_at dksL_law_15 15 rfl rfl)
theorem dL_law_519 : decode cL_law 519 = .ok (.iload 4, 2) := dk_21 4 (dk_at dksL_law_15 16 rfl rfl)
theorem dL_law_521 : decode cL_law 521 = .ok (.iconst 1, 1) := dk_4 (dk_at dksL_law_15 18 rfl rfl)
theorem dL_law_522 : decode cL_law 522 = .ok (.iadd, 1) := dk_96 (dk_at dksL_law_15 19 rfl rfl)
theorem dL_law_523 : decode cL_law 523 = .ok (.iaload, 1) := dk_46 (dk_at dksL_law_15 20 rfl rfl)
theorem dL_law_524 : decode cL_law 524 = .ok (.aload_n 3, 1) := dk_45 (dk_at dksL_law_15 21 rfl rfl)
theorem dL_law_525 : decode cL_law 525 = .ok (.invokestatic 134, 3) := dk_184 0 134 (dk_at dksL_law_16 0 rfl rfl)
theorem dL_law_528 : decode cL_law 528 = .ok (.istore 5, 2) := dk_54 5 (dk_at dksL_law_16 3 rfl rfl)
theorem dL_law_530 : decode cL_law 530 = .ok (.aload_n 2, 1) := dk_44 (dk_at dksL_law_16 5 rfl rfl)
theorem dL_law_531 : decode cL_law 531 = .ok (.aload_n 0, 1) := dk_42 (dk_at dksL_law_16 6 rfl rfl)
theorem dL_law_532 : decode cL_law 532 = .ok (.iload 4, 2) := dk_21 4 (dk_at dksL_law_16 7 rfl rfl)
theorem dL_law_534 : decode cL_law 534 = .ok (.iconst 1, 1) := dk_4 (dk_at dksL_law_16 9 rfl rfl)
theorem dL_law_535 : decode cL_law 535 = .ok (.iadd, 1) := dk_96 (dk_at dksL_law_16 10 rfl rfl)
theorem dL_law_536 : decode cL_law 536 = .ok (.iaload, 1) := dk_46 (dk_at dksL_law_16 11 rfl rfl)
theorem dL_law_537 : decode cL_law 537 = .ok (.invokevirtual 136, 3) := dk_182 0 136 (dk_at dksL_law_16 12 rfl rfl)
theorem dL_law_540 : decode cL_law 540 = .ok (.istore 6, 2) := dk_54 6 (dk_at dksL_law_16 15 rfl rfl)
theorem dL_law_542 : decode cL_law 542 = .ok (.aload_n 2, 1) := dk_44 (dk_at dksL_law_16 17 rfl rfl)
theorem dL_law_543 : decode cL_law 543 = .ok (.invokevirtual 116, 3) := dk_182 0 116 (dk_at dksL_law_16 18 rfl rfl)
theorem dL_law_546 : decode cL_law 546 = .ok (.iload 5, 2) := dk_21 5 (dk_at dksL_law_16 21 rfl rfl)
theorem dL_law_548 : decode cL_law 548 = .ok (.if_icmp .eq 5, 3) := dk_159 0 5 (dk_at dksL_law_17 0 rfl rfl)
theorem dL_law_551 : decode cL_law 551 = .ok (.iconst 0, 1) := dk_3 (dk_at dksL_law_17 3 rfl rfl)
theorem dL_law_552 : decode cL_law 552 = .ok (.ireturn, 1) := dk_172 (dk_at dksL_law_17 4 rfl rfl)
theorem dL_law_553 : decode cL_law 553 = .ok (.iload 5, 2) := dk_21 5 (dk_at dksL_law_17 5 rfl rfl)
theorem dL_law_555 : decode cL_law 555 = .ok (.ifCond .ne 15, 3) := dk_154 0 15 (dk_at dksL_law_17 7 rfl rfl)
theorem dL_law_558 : decode cL_law 558 = .ok (.aload_n 3, 1) := dk_45 (dk_at dksL_law_17 10 rfl rfl)
theorem dL_law_559 : decode cL_law 559 = .ok (.iconst 0, 1) := dk_3 (dk_at dksL_law_17 11 rfl rfl)
theorem dL_law_560 : decode cL_law 560 = .ok (.laload, 1) := dk_47 (dk_at dksL_law_17 12 rfl rfl)
theorem dL_law_561 : decode cL_law 561 = .ok (.iload 6, 2) := dk_21 6 (dk_at dksL_law_17 13 rfl rfl)
theorem dL_law_563 : decode cL_law 563 = .ok (.i2l, 1) := dk_133 (dk_at dksL_law_17 15 rfl rfl)
theorem dL_law_564 : decode cL_law 564 = .ok (.lcmp, 1) := dk_148 (dk_at dksL_law_17 16 rfl rfl)
theorem dL_law_565 : decode cL_law 565 = .ok (.ifCond .eq 5, 3) := dk_153 0 5 (dk_at dksL_law_17 17 rfl rfl)
theorem dL_law_568 : decode cL_law 568 = .ok (.iconst 0, 1) := dk_3 (dk_at dksL_law_17 20 rfl rfl)
theorem dL_law_569 : decode cL_law 569 = .ok (.ireturn, 1) := dk_172 (dk_at dksL_law_17 21 rfl rfl)
theorem dL_law_570 : decode cL_law 570 = .ok (.goto 1637, 3) := dk_167 6 101 (dk_at dksL_law_18 0 rfl rfl)
theorem dL_law_573 : decode cL_law 573 = .ok (.aload_n 1, 1) := dk_43 (dk_at dksL_law_18 3 rfl rfl)
theorem dL_law_574 : decode cL_law 574 = .ok (.aload_n 0, 1) := dk_42 (dk_at dksL_law_18 4 rfl rfl)
theorem dL_law_575 : decode cL_law 575 = .ok (.iload 4, 2) := dk_21 4 (dk_at dksL_law_18 5 rfl rfl)
theorem dL_law_577 : decode cL_law 577 = .ok (.iconst 1, 1) := dk_4 (dk_at dksL_law_18 7 rfl rfl)
theorem dL_law_578 : decode cL_law 578 = .ok (.iadd, 1) := dk_96 (dk_at dksL_law_18 8 rfl rfl)
theorem dL_law_579 : decode cL_law 579 = .ok (.iaload, 1) := dk_46 (dk_at dksL_law_18 9 rfl rfl)
theorem dL_law_580 : decode cL_law 580 = .ok (.aload_n 0, 1) := dk_42 (dk_at dksL_law_18 10 rfl rfl)
theorem dL_law_581 : decode cL_law 581 = .ok (.iload 4, 2) := dk_21 4 (dk_at dksL_law_18 11 rfl rfl)
theorem dL_law_583 : decode cL_law 583 = .ok (.iconst 2, 1) := dk_5 (dk_at dksL_law_18 13 rfl rfl)
theorem dL_law_584 : decode cL_law 584 = .ok (.iadd, 1) := dk_96 (dk_at dksL_law_18 14 rfl rfl)
theorem dL_law_585 : decode cL_law 585 = .ok (.iaload, 1) := dk_46 (dk_at dksL_law_18 15 rfl rfl)
theorem dL_law_586 : decode cL_law 586 = .ok (.aload_n 0, 1) := dk_42 (dk_at dksL_law_18 16 rfl rfl)
theorem dL_law_587 : decode cL_law 587 = .ok (.iload 4, 2) := dk_21 4 (dk_at dksL_law_18 17 rfl rfl)
theorem dL_law_589 : decode cL_law 589 = .ok (.iconst 3, 1) := dk_6 (dk_at dksL_law_18 19 rfl rfl)
theorem dL_law_590 : decode cL_law 590 = .ok (.iadd, 1) := dk_96 (dk_at dksL_law_18 20 rfl rfl)
theorem dL_law_591 : decode cL_law 591 = .ok (.iaload, 1) := dk_46 (dk_at dksL_law_18 21 rfl rfl)
theorem dL_law_592 : decode cL_law 592 = .ok (.aload_n 3, 1) := dk_45 (dk_at dksL_law_18 22 rfl rfl)
theorem dL_law_593 : decode cL_law 593 = .ok (.invokestatic 137, 3) := dk_184 0 137 (dk_at dksL_law_19 0 rfl rfl)
theorem dL_law_596 : decode cL_law 596 = .ok (.istore 5, 2) := dk_54 5 (dk_at dksL_law_19 3 rfl rfl)
theorem dL_law_598 : decode cL_law 598 = .ok (.aload_n 2, 1) := dk_44 (dk_at dksL_law_19 5 rfl rfl)
theorem dL_law_599 : decode cL_law 599 = .ok (.aload_n 0, 1) := dk_42 (dk_at dksL_law_19 6 rfl rfl)
theorem dL_law_600 : decode cL_law 600 = .ok (.iload 4, 2) := dk_21 4 (dk_at dksL_law_19 7 rfl rfl)
theorem dL_law_602 : decode cL_law 602 = .ok (.iconst 1, 1) := dk_4 (dk_at dksL_law_19 9 rfl rfl)
theorem dL_law_603 : decode cL_law 603 = .ok (.iadd, 1) := dk_96 (dk_at dksL_law_19 10 rfl rfl)
theorem dL_law_604 : decode cL_law 604 = .ok (.iaload, 1) := dk_46 (dk_at dksL_law_19 11 rfl rfl)
theorem dL_law_605 : decode cL_law 605 = .ok (.aload_n 0, 1) := dk_42 (dk_at dksL_law_19 12 rfl rfl)
theorem dL_law_606 : decode cL_law 606 = .ok (.iload 4, 2) := dk_21 4 (dk_at dksL_law_19 13 rfl rfl)
theorem dL_law_608 : decode cL_law 608 = .ok (.iconst 2, 1) := dk_5 (dk_at dksL_law_19 15 rfl rfl)
theorem dL_law_609 : decode cL_law 609 = .ok (.iadd, 1) := dk_96 (dk_at dksL_law_19 16 rfl rfl)
theorem dL_law_610 : decode cL_law 610 = .ok (.iaload, 1) := dk_46 (dk_at dksL_law_19 17 rfl rfl)
theorem dL_law_611 : decode cL_law 611 = .ok (.aload_n 0, 1) := dk_42 (dk_at dksL_law_19 18 rfl rfl)
theorem dL_law_612 : decode cL_law 612 = .ok (.iload 4, 2) := dk_21 4 (dk_at dksL_law_19 19 rfl rfl)
theorem dL_law_614 : decode cL_law 614 = .ok (.iconst 3, 1) := dk_6 (dk_at dksL_law_19 21 rfl rfl)
theorem dL_law_615 : decode cL_law 615 = .ok (.iadd, 1) := dk_96 (dk_at dksL_law_19 22 rfl rfl)
theorem dL_law_616 : decode cL_law 616 = .ok (.iaload, 1) := dk_46 (dk_at dksL_law_19 23 rfl rfl)
theorem dL_law_617 : decode cL_law 617 = .ok (.invokevirtual 140, 3) := dk_182 0 140 (dk_at dksL_law_20 0 rfl rfl)
theorem dL_law_620 : decode cL_law 620 = .ok (.istore 6, 2) := dk_54 6 (dk_at dksL_law_20 3 rfl rfl)
theorem dL_law_622 : decode cL_law 622 = .ok (.aload_n 2, 1) := dk_44 (dk_at dksL_law_20 5 rfl rfl)
theorem dL_law_623 : decode cL_law 623 = .ok (.invokevirtual 116, 3) := dk_182 0 116 (dk_at dksL_law_20 6 rfl rfl)
theorem dL_law_626 : decode cL_law 626 = .ok (.iload 5, 2) := dk_21 5 (dk_at dksL_law_20 9 rfl rfl)
theorem dL_law_628 : decode cL_law 628 = .ok (.if_icmp .eq 5, 3) := dk_159 0 5 (dk_at dksL_law_20 11 rfl rfl)
theorem dL_law_631 : decode cL_law 631 = .ok (.iconst 0, 1) := dk_3 (dk_at dksL_law_20 14 rfl rfl)
theorem dL_law_632 : decode cL_law 632 = .ok (.ireturn, 1) := dk_172 (dk_at dksL_law_20 15 rfl rfl)
theorem dL_law_633 : decode cL_law 633 = .ok (.iload 5, 2) := dk_21 5 (dk_at dksL_law_20 16 rfl rfl)
theorem dL_law_635 : decode cL_law 635 = .ok (.ifCond .ne 15, 3) := dk_154 0 15 (dk_at dksL_law_20 18 rfl rfl)
theorem dL_law_638 : decode cL_law 638 = .ok (.aload_n 3, 1) := dk_45 (dk_at dksL_law_20 21 rfl rfl)
theorem dL_law_639 : decode cL_law 639 = .ok (.iconst 0, 1) := dk_3 (dk_at dksL_law_20 22 rfl rfl)
theorem dL_law_640 : decode cL_law 640 = .ok (.laload, 1) := dk_47 (dk_at dksL_law_20 23 rfl rfl)
theorem dL_law_641 : decode cL_law 641 = .ok (.iload 6, 2) := dk_21 6 (dk_at dksL_law_21 0 rfl rfl)
theorem dL_law_643 : decode cL_law 643 = .ok (.i2l, 1) := dk_133 (dk_at dksL_law_21 2 rfl rfl)
theorem dL_law_644 : decode cL_law 644 = .ok (.lcmp, 1) := dk_148 (dk_at dksL_law_21 3 rfl rfl)
theorem dL_law_645 : decode cL_law 645 = .ok (.ifCond .eq 5, 3) := dk_153 0 5 (dk_at dksL_law_21 4 rfl rfl)
theorem dL_law_648 : decode cL_law 648 = .ok (.iconst 0, 1) := dk_3 (dk_at dksL_law_21 7 rfl rfl)
theorem dL_law_649 : decode cL_law 649 = .ok (.ireturn, 1) := dk_172 (dk_at dksL_law_21 8 rfl rfl)
theorem dL_law_650 : decode cL_law 650 = .ok (.goto 1557, 3) := dk_167 6 21 (dk_at dksL_law_21 9 rfl rfl)
theorem dL_law_653 : decode cL_law 653 = .ok (.aload_n 1, 1) := dk_43 (dk_at dksL_law_21 12 rfl rfl)
theorem dL_law_654 : decode cL_law 654 = .ok (.aload_n 0, 1) := dk_42 (dk_at dksL_law_21 13 rfl rfl)
theorem dL_law_655 : decode cL_law 655 = .ok (.iload 4, 2) := dk_21 4 (dk_at dksL_law_21 14 rfl rfl)
theorem dL_law_657 : decode cL_law 657 = .ok (.iconst 1, 1) := dk_4 (dk_at dksL_law_21 16 rfl rfl)
theorem dL_law_658 : decode cL_law 658 = .ok (.iadd, 1) := dk_96 (dk_at dksL_law_21 17 rfl rfl)
theorem dL_law_659 : decode cL_law 659 = .ok (.iaload, 1) := dk_46 (dk_at dksL_law_21 18 rfl rfl)
theorem dL_law_660 : decode cL_law 660 = .ok (.aload_n 0, 1) := dk_42 (dk_at dksL_law_21 19 rfl rfl)
theorem dL_law_661 : decode cL_law 661 = .ok (.iload 4, 2) := dk_21 4 (dk_at dksL_law_21 20 rfl rfl)
theorem dL_law_663 : decode cL_law 663 = .ok (.iconst 2, 1) := dk_5 (dk_at dksL_law_21 22 rfl rfl)
theorem dL_law_664 : decode cL_law 664 = .ok (.iadd, 1) := dk_96 (dk_at dksL_law_21 23 rfl rfl)
theorem dL_law_665 : decode cL_law 665 = .ok (.iaload, 1) := dk_46 (dk_at dksL_law_22 0 rfl rfl)
theorem dL_law_666 : decode cL_law 666 = .ok (.aload_n 3, 1) := dk_45 (dk_at dksL_law_22 1 rfl rfl)
theorem dL_law_667 : decode cL_law 667 = .ok (.invokestatic 141, 3) := dk_184 0 141 (dk_at dksL_law_22 2 rfl rfl)
theorem dL_law_670 : decode cL_law 670 = .ok (.istore 5, 2) := dk_54 5 (dk_at dksL_law_22 5 rfl rfl)
theorem dL_law_672 : decode cL_law 672 = .ok (.aload_n 2, 1) := dk_44 (dk_at dksL_law_22 7 rfl rfl)
theorem dL_law_673 : decode cL_law 673 = .ok (.aload_n 0, 1) := dk_42 (dk_at dksL_law_22 8 rfl rfl)
theorem dL_law_674 : decode cL_law 674 = .ok (.iload 4, 2) := dk_21 4 (dk_at dksL_law_22 9 rfl rfl)
theorem dL_law_676 : decode cL_law 676 = .ok (.iconst 1, 1) := dk_4 (dk_at dksL_law_22 11 rfl rfl)
theorem dL_law_677 : decode cL_law 677 = .ok (.iadd, 1) := dk_96 (dk_at dksL_law_22 12 rfl rfl)
theorem dL_law_678 : decode cL_law 678 = .ok (.iaload, 1) := dk_46 (dk_at dksL_law_22 13 rfl rfl)
theorem dL_law_679 : decode cL_law 679 = .ok (.aload_n 0, 1) := dk_42 (dk_at dksL_law_22 14 rfl rfl)
theorem dL_law_680 : decode cL_law 680 = .ok (.iload 4, 2) := dk_21 4 (dk_at dksL_law_22 15 rfl rfl)
theorem dL_law_682 : decode cL_law 682 = .ok (.iconst 2, 1) := dk_5 (dk_at dksL_law_22 17 rfl rfl)
theorem dL_law_683 : decode cL_law 683 = .ok (.iadd, 1) := dk_96 (dk_at dksL_law_22 18 rfl rfl)
theorem dL_law_684 : decode cL_law 684 = .ok (.iaload, 1) := dk_46 (dk_at dksL_law_22 19 rfl rfl)
theorem dL_law_685 : decode cL_law 685 = .ok (.invokevirtual 143, 3) := dk_182 0 143 (dk_at dksL_law_22 20 rfl rfl)
theorem dL_law_688 : decode cL_law 688 = .ok (.istore 6, 2) := dk_54 6 (dk_at dksL_law_23 0 rfl rfl)
theorem dL_law_690 : decode cL_law 690 = .ok (.aload_n 2, 1) := dk_44 (dk_at dksL_law_23 2 rfl rfl)
theorem dL_law_691 : decode cL_law 691 = .ok (.invokevirtual 116, 3) := dk_182 0 116 (dk_at dksL_law_23 3 rfl rfl)
theorem dL_law_694 : decode cL_law 694 = .ok (.iload 5, 2) := dk_21 5 (dk_at dksL_law_23 6 rfl rfl)
theorem dL_law_696 : decode cL_law 696 = .ok (.if_icmp .eq 5, 3) := dk_159 0 5 (dk_at dksL_law_23 8 rfl rfl)
theorem dL_law_699 : decode cL_law 699 = .ok (.iconst 0, 1) := dk_3 (dk_at dksL_law_23 11 rfl rfl)
theorem dL_law_700 : decode cL_law 700 = .ok (.ireturn, 1) := dk_172 (dk_at dksL_law_23 12 rfl rfl)
theorem dL_law_701 : decode cL_law 701 = .ok (.iload 5, 2) := dk_21 5 (dk_at dksL_law_23 13 rfl rfl)
theorem dL_law_703 : decode cL_law 703 = .ok (.ifCond .ne 15, 3) := dk_154 0 15 (dk_at dksL_law_23 15 rfl rfl)
theorem dL_law_706 : decode cL_law 706 = .ok (.aload_n 3, 1) := dk_45 (dk_at dksL_law_23 18 rfl rfl)
theorem dL_law_707 : decode cL_law 707 = .ok (.iconst 0, 1) := dk_3 (dk_at dksL_law_23 19 rfl rfl)
theorem dL_law_708 : decode cL_law 708 = .ok (.laload, 1) := dk_47 (dk_at dksL_law_23 20 rfl rfl)
theorem dL_law_709 : decode cL_law 709 = .ok (.iload 6, 2) := dk_21 6 (dk_at dksL_law_23 21 rfl rfl)
theorem dL_law_711 : decode cL_law 711 = .ok (.i2l, 1) := dk_133 (dk_at dksL_law_23 23 rfl rfl)
theorem dL_law_712 : decode cL_law 712 = .ok (.lcmp, 1) := dk_148 (dk_at dksL_law_24 0 rfl rfl)
theorem dL_law_713 : decode cL_law 713 = .ok (.ifCond .eq 5, 3) := dk_153 0 5 (dk_at dksL_law_24 1 rfl rfl)
theorem dL_law_716 : decode cL_law 716 = .ok (.iconst 0, 1) := dk_3 (dk_at dksL_law_24 4 rfl rfl)
theorem dL_law_717 : decode cL_law 717 = .ok (.ireturn, 1) := dk_172 (dk_at dksL_law_24 5 rfl rfl)
theorem dL_law_718 : decode cL_law 718 = .ok (.goto 1489, 3) := dk_167 5 209 (dk_at dksL_law_24 6 rfl rfl)
theorem dL_law_721 : decode cL_law 721 = .ok (.aload_n 1, 1) := dk_43 (dk_at dksL_law_24 9 rfl rfl)
theorem dL_law_722 : decode cL_law 722 = .ok (.aload_n 0, 1) := dk_42 (dk_at dksL_law_24 10 rfl rfl)
theorem dL_law_723 : decode cL_law 723 = .ok (.iload 4, 2) := dk_21 4 (dk_at dksL_law_24 11 rfl rfl)
theorem dL_law_725 : decode cL_law 725 = .ok (.iconst 1, 1) := dk_4 (dk_at dksL_law_24 13 rfl rfl)
theorem dL_law_726 : decode cL_law 726 = .ok (.iadd, 1) := dk_96 (dk_at dksL_law_24 14 rfl rfl)
theorem dL_law_727 : decode cL_law 727 = .ok (.iaload, 1) := dk_46 (dk_at dksL_law_24 15 rfl rfl)
theorem dL_law_728 : decode cL_law 728 = .ok (.aload_n 3, 1) := dk_45 (dk_at dksL_law_24 16 rfl rfl)
theorem dL_law_729 : decode cL_law 729 = .ok (.invokestatic 144, 3) := dk_184 0 144 (dk_at dksL_law_24 17 rfl rfl)
theorem dL_law_732 : decode cL_law 732 = .ok (.istore 5, 2) := dk_54 5 (dk_at dksL_law_24 20 rfl rfl)
theorem dL_law_734 : decode cL_law 734 = .ok (.aload_n 2, 1) := dk_44 (dk_at dksL_law_24 22 rfl rfl)
theorem dL_law_735 : decode cL_law 735 = .ok (.aload_n 0, 1) := dk_42 (dk_at dksL_law_24 23 rfl rfl)
theorem dL_law_736 : decode cL_law 736 = .ok (.iload 4, 2) := dk_21 4 (dk_at dksL_law_25 0 rfl rfl)
theorem dL_law_738 : decode cL_law 738 = .ok (.iconst 1, 1) := dk_4 (dk_at dksL_law_25 2 rfl rfl)
theorem dL_law_739 : decode cL_law 739 = .ok (.iadd, 1) := dk_96 (dk_at dksL_law_25 3 rfl rfl)
theorem dL_law_740 : decode cL_law 740 = .ok (.iaload, 1) := dk_46 (dk_at dksL_law_25 4 rfl rfl)
theorem dL_law_741 : decode cL_law 741 = .ok (.invokevirtual 146, 3) := dk_182 0 146 (dk_at dksL_law_25 5 rfl rfl)
theorem dL_law_744 : decode cL_law 744 = .ok (.istore 6, 2) := dk_54 6 (dk_at dksL_law_25 8 rfl rfl)
theorem dL_law_746 : decode cL_law 746 = .ok (.aload_n 2, 1) := dk_44 (dk_at dksL_law_25 10 rfl rfl)
theorem dL_law_747 : decode cL_law 747 = .ok (.invokevirtual 116, 3) := dk_182 0 116 (dk_at dksL_law_25 11 rfl rfl)
theorem dL_law_750 : decode cL_law 750 = .ok (.iload 5, 2) := dk_21 5 (dk_at dksL_law_25 14 rfl rfl)
theorem dL_law_752 : decode cL_law 752 = .ok (.if_icmp .eq 5, 3) := dk_159 0 5 (dk_at dksL_law_25 16 rfl rfl)
theorem dL_law_755 : decode cL_law 755 = .ok (.iconst 0, 1) := dk_3 (dk_at dksL_law_25 19 rfl rfl)
theorem dL_law_756 : decode cL_law 756 = .ok (.ireturn, 1) := dk_172 (dk_at dksL_law_25 20 rfl rfl)
theorem dL_law_757 : decode cL_law 757 = .ok (.iload 5, 2) := dk_21 5 (dk_at dksL_law_25 21 rfl rfl)
theorem dL_law_759 : decode cL_law 759 = .ok (.ifCond .ne 15, 3) := dk_154 0 15 (dk_at dksL_law_26 0 rfl rfl)
theorem dL_law_762 : decode cL_law 762 = .ok (.aload_n 3, 1) := dk_45 (dk_at dksL_law_26 3 rfl rfl)
theorem dL_law_763 : decode cL_law 763 = .ok (.iconst 0, 1) := dk_3 (dk_at dksL_law_26 4 rfl rfl)
theorem dL_law_764 : decode cL_law 764 = .ok (.laload, 1) := dk_47 (dk_at dksL_law_26 5 rfl rfl)
theorem dL_law_765 : decode cL_law 765 = .ok (.iload 6, 2) := dk_21 6 (dk_at dksL_law_26 6 rfl rfl)
theorem dL_law_767 : decode cL_law 767 = .ok (.i2l, 1) := dk_133 (dk_at dksL_law_26 8 rfl rfl)
theorem dL_law_768 : decode cL_law 768 = .ok (.lcmp, 1) := dk_148 (dk_at dksL_law_26 9 rfl rfl)
theorem dL_law_769 : decode cL_law 769 = .ok (.ifCond .eq 5, 3) := dk_153 0 5 (dk_at dksL_law_26 10 rfl rfl)
theorem dL_law_772 : decode cL_law 772 = .ok (.iconst 0, 1) := dk_3 (dk_at dksL_law_26 13 rfl rfl)
theorem dL_law_773 : decode cL_law 773 = .ok (.ireturn, 1) := dk_172 (dk_at dksL_law_26 14 rfl rfl)
theorem dL_law_774 : decode cL_law 774 = .ok (.goto 1433, 3) := dk_167 5 153 (dk_at dksL_law_26 15 rfl rfl)
theorem dL_law_777 : decode cL_law 777 = .ok (.aload_n 1, 1) := dk_43 (dk_at dksL_law_26 18 rfl rfl)
theorem dL_law_778 : decode cL_law 778 = .ok (.aload_n 0, 1) := dk_42 (dk_at dksL_law_26 19 rfl rfl)
theorem dL_law_779 : decode cL_law 779 = .ok (.iload 4, 2) := dk_21 4 (dk_at dksL_law_26 20 rfl rfl)
theorem dL_law_781 : decode cL_law 781 = .ok (.iconst 1, 1) := dk_4 (dk_at dksL_law_26 22 rfl rfl)
theorem dL_law_782 : decode cL_law 782 = .ok (.iadd, 1) := dk_96 (dk_at dksL_law_26 23 rfl rfl)
theorem dL_law_783 : decode cL_law 783 = .ok (.iaload, 1) := dk_46 (dk_at dksL_law_27 0 rfl rfl)
theorem dL_law_784 : decode cL_law 784 = .ok (.aload_n 3, 1) := dk_45 (dk_at dksL_law_27 1 rfl rfl)
theorem dL_law_785 : decode cL_law 785 = .ok (.invokestatic 147, 3) := dk_184 0 147 (dk_at dksL_law_27 2 rfl rfl)
theorem dL_law_788 : decode cL_law 788 = .ok (.istore 5, 2) := dk_54 5 (dk_at dksL_law_27 5 rfl rfl)
theorem dL_law_790 : decode cL_law 790 = .ok (.aload_n 2, 1) := dk_44 (dk_at dksL_law_27 7 rfl rfl)
theorem dL_law_791 : decode cL_law 791 = .ok (.aload_n 0, 1) := dk_42 (dk_at dksL_law_27 8 rfl rfl)
theorem dL_law_792 : decode cL_law 792 = .ok (.iload 4, 2) := dk_21 4 (dk_at dksL_law_27 9 rfl rfl)
theorem dL_law_794 : decode cL_law 794 = .ok (.iconst 1, 1) := dk_4 (dk_at dksL_law_27 11 rfl rfl)
theorem dL_law_795 : decode cL_law 795 = .ok (.iadd, 1) := dk_96 (dk_at dksL_law_27 12 rfl rfl)
theorem dL_law_796 : decode cL_law 796 = .ok (.iaload, 1) := dk_46 (dk_at dksL_law_27 13 rfl rfl)
theorem dL_law_797 : decode cL_law 797 = .ok (.invokevirtual 149, 3) := dk_182 0 149 (dk_at dksL_law_27 14 rfl rfl)
theorem dL_law_800 : decode cL_law 800 = .ok (.istore 6, 2) := dk_54 6 (dk_at dksL_law_27 17 rfl rfl)
theorem dL_law_802 : decode cL_law 802 = .ok (.aload_n 2, 1) := dk_44 (dk_at dksL_law_27 19 rfl rfl)
theorem dL_law_803 : decode cL_law 803 = .ok (.invokevirtual 116, 3) := dk_182 0 116 (dk_at dksL_law_27 20 rfl rfl)
theorem dL_law_806 : decode cL_law 806 = .ok (.iload 5, 2) := dk_21 5 (dk_at dksL_law_28 0 rfl rfl)
theorem dL_law_808 : decode cL_law 808 = .ok (.if_icmp .eq 5, 3) := dk_159 0 5 (dk_at dksL_law_28 2 rfl rfl)
theorem dL_law_811 : decode cL_law 811 = .ok (.iconst 0, 1) := dk_3 (dk_at dksL_law_28 5 rfl rfl)
theorem dL_law_812 : decode cL_law 812 = .ok (.ireturn, 1) := dk_172 (dk_at dksL_law_28 6 rfl rfl)
theorem dL_law_813 : decode cL_law 813 = .ok (.iload 5, 2) := dk_21 5 (dk_at dksL_law_28 7 rfl rfl)
theorem dL_law_815 : decode cL_law 815 = .ok (.ifCond .ne 15, 3) := dk_154 0 15 (dk_at dksL_law_28 9 rfl rfl)
theorem dL_law_818 : decode cL_law 818 = .ok (.aload_n 3, 1) := dk_45 (dk_at dksL_law_28 12 rfl rfl)
theorem dL_law_819 : decode cL_law 819 = .ok (.iconst 0, 1) := dk_3 (dk_at dksL_law_28 13 rfl rfl)
theorem dL_law_820 : decode cL_law 820 = .ok (.laload, 1) := dk_47 (dk_at dksL_law_28 14 rfl rfl)
theorem dL_law_821 : decode cL_law 821 = .ok (.iload 6, 2) := dk_21 6 (dk_at dksL_law_28 15 rfl rfl)
theorem dL_law_823 : decode cL_law 823 = .ok (.i2l, 1) := dk_133 (dk_at dksL_law_28 17 rfl rfl)
theorem dL_law_824 : decode cL_law 824 = .ok (.lcmp, 1) := dk_148 (dk_at dksL_law_28 18 rfl rfl)
theorem dL_law_825 : decode cL_law 825 = .ok (.ifCond .eq 5, 3) := dk_153 0 5 (dk_at dksL_law_28 19 rfl rfl)
theorem dL_law_828 : decode cL_law 828 = .ok (.iconst 0, 1) := dk_3 (dk_at dksL_law_28 22 rfl rfl)
theorem dL_law_829 : decode cL_law 829 = .ok (.ireturn, 1) := dk_172 (dk_at dksL_law_28 23 rfl rfl)
theorem dL_law_830 : decode cL_law 830 = .ok (.goto 1377, 3) := dk_167 5 97 (dk_at dksL_law_29 0 rfl rfl)
theorem dL_law_833 : decode cL_law 833 = .ok (.aload_n 1, 1) := dk_43 (dk_at dksL_law_29 3 rfl rfl)
theorem dL_law_834 : decode cL_law 834 = .ok (.aload_n 0, 1) := dk_42 (dk_at dksL_law_29 4 rfl rfl)
theorem dL_law_835 : decode cL_law 835 = .ok (.iload 4, 2) := dk_21 4 (dk_at dksL_law_29 5 rfl rfl)
theorem dL_law_837 : decode cL_law 837 = .ok (.iconst 1, 1) := dk_4 (dk_at dksL_law_29 7 rfl rfl)
theorem dL_law_838 : decode cL_law 838 = .ok (.iadd, 1) := dk_96 (dk_at dksL_law_29 8 rfl rfl)
theorem dL_law_839 : decode cL_law 839 = .ok (.iaload, 1) := dk_46 (dk_at dksL_law_29 9 rfl rfl)
theorem dL_law_840 : decode cL_law 840 = .ok (.ifCond .eq 7, 3) := dk_153 0 7 (dk_at dksL_law_29 10 rfl rfl)
theorem dL_law_843 : decode cL_law 843 = .ok (.iconst 1, 1) := dk_4 (dk_at dksL_law_29 13 rfl rfl)
theorem dL_law_844 : decode cL_law 844 = .ok (.goto 4, 3) := dk_167 0 4 (dk_at dksL_law_29 14 rfl rfl)
theorem dL_law_847 : decode cL_law 847 = .ok (.iconst 0, 1) := dk_3 (dk_at dksL_law_29 17 rfl rfl)
theorem dL_law_848 : decode cL_law 848 = .ok (.invokevirtual 150, 3) := dk_182 0 150 (dk_at dksL_law_29 18 rfl rfl)
theorem dL_law_851 : decode cL_law 851 = .ok (.aload_n 2, 1) := dk_44 (dk_at dksL_law_29 21 rfl rfl)
theorem dL_law_852 : decode cL_law 852 = .ok (.aload_n 0, 1) := dk_42 (dk_at dksL_law_29 22 rfl rfl)
theorem dL_law_853 : decode cL_law 853 = .ok (.iload 4, 2) := dk_21 4 (dk_at dksL_law_30 0 rfl rfl)
theorem dL_law_855 : decode cL_law 855 = .ok (.iconst 1, 1) := dk_4 (dk_at dksL_law_30 2 rfl rfl)
theorem dL_law_856 : decode cL_law 856 = .ok (.iadd, 1) := dk_96 (dk_at dksL_law_30 3 rfl rfl)
theorem dL_law_857 : decode cL_law 857 = .ok (.iaload, 1) := dk_46 (dk_at dksL_law_30 4 rfl rfl)
theorem dL_law_858 : decode cL_law 858 = .ok (.ifCond .eq 7, 3) := dk_153 0 7 (dk_at dksL_law_30 5 rfl rfl)
theorem dL_law_861 : decode cL_law 861 = .ok (.iconst 1, 1) := dk_4 (dk_at dksL_law_30 8 rfl rfl)
theorem dL_law_862 : decode cL_law 862 = .ok (.goto 4, 3) := dk_167 0 4 (dk_at dksL_law_30 9 rfl rfl)
theorem dL_law_865 : decode cL_law 865 = .ok (.iconst 0, 1) := dk_3 (dk_at dksL_law_30 12 rfl rfl)
theorem dL_law_866 : decode cL_law 866 = .ok (.invokevirtual 154, 3) := dk_182 0 154 (dk_at dksL_law_30 13 rfl rfl)
theorem dL_law_869 : decode cL_law 869 = .ok (.if_icmp .eq 1338, 3) := dk_159 5 58 (dk_at dksL_law_30 16 rfl rfl)
theorem dL_law_872 : decode cL_law 872 = .ok (.iconst 0, 1) := dk_3 (dk_at dksL_law_30 19 rfl rfl)
theorem dL_law_873 : decode cL_law 873 = .ok (.ireturn, 1) := dk_172 (dk_at dksL_law_30 20 rfl rfl)
theorem dL_law_874 : decode cL_law 874 = .ok (.aload_n 1, 1) := dk_43 (dk_at dksL_law_30 21 rfl rfl)
theorem dL_law_875 : decode cL_law 875 = .ok (.invokevirtual 155, 3) := dk_182 0 155 (dk_at dksL_law_31 0 rfl rfl)
theorem dL_law_878 : decode cL_law 878 = .ok (.aload_n 2, 1) := dk_44 (dk_at dksL_law_31 3 rfl rfl)
theorem dL_law_879 : decode cL_law 879 = .ok (.invokevirtual 158, 3) := dk_182 0 158 (dk_at dksL_law_31 4 rfl rfl)
theorem dL_law_882 : decode cL_law 882 = .ok (.if_icmp .eq 1325, 3) := dk_159 5 45 (dk_at dksL_law_31 7 rfl rfl)
theorem dL_law_885 : decode cL_law 885 = .ok (.iconst 0, 1) := dk_3 (dk_at dksL_law_31 10 rfl rfl)
theorem dL_law_886 : decode cL_law 886 = .ok (.ireturn, 1) := dk_172 (dk_at dksL_law_31 11 rfl rfl)
theorem dL_law_887 : decode cL_law 887 = .ok (.aload_n 1, 1) := dk_43 (dk_at dksL_law_31 12 rfl rfl)
theorem dL_law_888 : decode cL_law 888 = .ok (.aload_n 0, 1) := dk_42 (dk_at dksL_law_31 13 rfl rfl)
theorem dL_law_889 : decode cL_law 889 = .ok (.iload 4, 2) := dk_21 4 (dk_at dksL_law_31 14 rfl rfl)
theorem dL_law_891 : decode cL_law 891 = .ok (.iconst 1, 1) := dk_4 (dk_at dksL_law_31 16 rfl rfl)
theorem dL_law_892 : decode cL_law 892 = .ok (.iadd, 1) := dk_96 (dk_at dksL_law_31 17 rfl rfl)
theorem dL_law_893 : decode cL_law 893 = .ok (.iaload, 1) := dk_46 (dk_at dksL_law_31 18 rfl rfl)
theorem dL_law_894 : decode cL_law 894 = .ok (.aload_n 3, 1) := dk_45 (dk_at dksL_law_31 19 rfl rfl)
theorem dL_law_895 : decode cL_law 895 = .ok (.invokestatic 159, 3) := dk_184 0 159 (dk_at dksL_law_31 20 rfl rfl)
theorem dL_law_898 : decode cL_law 898 = .ok (.istore 5, 2) := dk_54 5 (dk_at dksL_law_32 0 rfl rfl)
theorem dL_law_900 : decode cL_law 900 = .ok (.aload_n 2, 1) := dk_44 (dk_at dksL_law_32 2 rfl rfl)
theorem dL_law_901 : decode cL_law 901 = .ok (.aload_n 0, 1) := dk_42 (dk_at dksL_law_32 3 rfl rfl)
theorem dL_law_902 : decode cL_law 902 = .ok (.iload 4, 2) := dk_21 4 (dk_at dksL_law_32 4 rfl rfl)
theorem dL_law_904 : decode cL_law 904 = .ok (.iconst 1, 1) := dk_4 (dk_at dksL_law_32 6 rfl rfl)
theorem dL_law_905 : decode cL_law 905 = .ok (.iadd, 1) := dk_96 (dk_at dksL_law_32 7 rfl rfl)
theorem dL_law_906 : decode cL_law 906 = .ok (.iaload, 1) := dk_46 (dk_at dksL_law_32 8 rfl rfl)
theorem dL_law_907 : decode cL_law 907 = .ok (.invokevirtual 161, 3) := dk_182 0 161 (dk_at dksL_law_32 9 rfl rfl)
theorem dL_law_910 : decode cL_law 910 = .ok (.istore 6, 2) := dk_54 6 (dk_at dksL_law_32 12 rfl rfl)
theorem dL_law_912 : decode cL_law 912 = .ok (.aload_n 2, 1) := dk_44 (dk_at dksL_law_32 14 rfl rfl)
theorem dL_law_913 : decode cL_law 913 = .ok (.invokevirtual 116, 3) := dk_182 0 116 (dk_at dksL_law_32 15 rfl rfl)
theorem dL_law_916 : decode cL_law 916 = .ok (.iload 5, 2) := dk_21 5 (dk_at dksL_law_32 18 rfl rfl)
theorem dL_law_918 : decode cL_law 918 = .ok (.if_icmp .eq 5, 3) := dk_159 0 5 (dk_at dksL_law_32 20 rfl rfl)
theorem dL_law_921 : decode cL_law 921 = .ok (.iconst 0, 1) := dk_3 (dk_at dksL_law_32 23 rfl rfl)
theorem dL_law_922 : decode cL_law 922 = .ok (.ireturn, 1) := dk_172 (dk_at dksL_law_33 0 rfl rfl)
theorem dL_law_923 : decode cL_law 923 = .ok (.iload 5, 2) := dk_21 5 (dk_at dksL_law_33 1 rfl rfl)
theorem dL_law_925 : decode cL_law 925 = .ok (.ifCond .ne 15, 3) := dk_154 0 15 (dk_at dksL_law_33 3 rfl rfl)
theorem dL_law_928 : decode cL_law 928 = .ok (.aload_n 3, 1) := dk_45 (dk_at dksL_law_33 6 rfl rfl)
theorem dL_law_929 : decode cL_law 929 = .ok (.iconst 0, 1) := dk_3 (dk_at dksL_law_33 7 rfl rfl)
theorem dL_law_930 : decode cL_law 930 = .ok (.laload, 1) := dk_47 (dk_at dksL_law_33 8 rfl rfl)
theorem dL_law_931 : decode cL_law 931 = .ok (.iload 6, 2) := dk_21 6 (dk_at dksL_law_33 9 rfl rfl)
theorem dL_law_933 : decode cL_law 933 = .ok (.i2l, 1) := dk_133 (dk_at dksL_law_33 11 rfl rfl)
theorem dL_law_934 : decode cL_law 934 = .ok (.lcmp, 1) := dk_148 (dk_at dksL_law_33 12 rfl rfl)
theorem dL_law_935 : decode cL_law 935 = .ok (.ifCond .eq 5, 3) := dk_153 0 5 (dk_at dksL_law_33 13 rfl rfl)
theorem dL_law_938 : decode cL_law 938 = .ok (.iconst 0, 1) := dk_3 (dk_at dksL_law_33 16 rfl rfl)
theorem dL_law_939 : decode cL_law 939 = .ok (.ireturn, 1) := dk_172 (dk_at dksL_law_33 17 rfl rfl)
theorem dL_law_940 : decode cL_law 940 = .ok (.goto 1267, 3) := dk_167 4 243 (dk_at dksL_law_33 18 rfl rfl)
theorem dL_law_943 : decode cL_law 943 = .ok (.aload_n 1, 1) := dk_43 (dk_at dksL_law_33 21 rfl rfl)
theorem dL_law_944 : decode cL_law 944 = .ok (.invokevirtual 162, 3) := dk_182 0 162 (dk_at dksL_law_34 0 rfl rfl)
theorem dL_law_947 : decode cL_law 947 = .ok (.aload_n 2, 1) := dk_44 (dk_at dksL_law_34 3 rfl rfl)
theorem dL_law_948 : decode cL_law 948 = .ok (.invokevirtual 165, 3) := dk_182 0 165 (dk_at dksL_law_34 4 rfl rfl)
theorem dL_law_951 : decode cL_law 951 = .ok (.if_icmp .eq 1256, 3) := dk_159 4 232 (dk_at dksL_law_34 7 rfl rfl)
theorem dL_law_954 : decode cL_law 954 = .ok (.iconst 0, 1) := dk_3 (dk_at dksL_law_34 10 rfl rfl)
theorem dL_law_955 : decode cL_law 955 = .ok (.ireturn, 1) := dk_172 (dk_at dksL_law_34 11 rfl rfl)
theorem dL_law_956 : decode cL_law 956 = .ok (.aload_n 1, 1) := dk_43 (dk_at dksL_law_34 12 rfl rfl)
theorem dL_law_957 : decode cL_law 957 = .ok (.aload_n 0, 1) := dk_42 (dk_at dksL_law_34 13 rfl rfl)
theorem dL_law_958 : decode cL_law 958 = .ok (.iload 4, 2) := dk_21 4 (dk_at dksL_law_34 14 rfl rfl)
theorem dL_law_960 : decode cL_law 960 = .ok (.iconst 1, 1) := dk_4 (dk_at dksL_law_34 16 rfl rfl)
theorem dL_law_961 : decode cL_law 961 = .ok (.iadd, 1) := dk_96 (dk_at dksL_law_34 17 rfl rfl)
theorem dL_law_962 : decode cL_law 962 = .ok (.iaload, 1) := dk_46 (dk_at dksL_law_34 18 rfl rfl)
theorem dL_law_963 : decode cL_law 963 = .ok (.aload_n 0, 1) := dk_42 (dk_at dksL_law_34 19 rfl rfl)
theorem dL_law_964 : decode cL_law 964 = .ok (.iload 4, 2) := dk_21 4 (dk_at dksL_law_34 20 rfl rfl)
theorem dL_law_966 : decode cL_law 966 = .ok (.iconst 2, 1) := dk_5 (dk_at dksL_law_34 22 rfl rfl)
theorem dL_law_967 : decode cL_law 967 = .ok (.iadd, 1) := dk_96 (dk_at dksL_law_34 23 rfl rfl)
theorem dL_law_968 : decode cL_law 968 = .ok (.iaload, 1) := dk_46 (dk_at dksL_law_35 0 rfl rfl)
theorem dL_law_969 : decode cL_law 969 = .ok (.aload_n 3, 1) := dk_45 (dk_at dksL_law_35 1 rfl rfl)
theorem dL_law_970 : decode cL_law 970 = .ok (.invokestatic 166, 3) := dk_184 0 166 (dk_at dksL_law_35 2 rfl rfl)
theorem dL_law_973 : decode cL_law 973 = .ok (.istore 5, 2) := dk_54 5 (dk_at dksL_law_35 5 rfl rfl)
theorem dL_law_975 : decode cL_law 975 = .ok (.aload_n 2, 1) := dk_44 (dk_at dksL_law_35 7 rfl rfl)
theorem dL_law_976 : decode cL_law 976 = .ok (.aload_n 0, 1) := dk_42 (dk_at dksL_law_35 8 rfl rfl)
theorem dL_law_977 : decode cL_law 977 = .ok (.iload 4, 2) := dk_21 4 (dk_at dksL_law_35 9 rfl rfl)
theorem dL_law_979 : decode cL_law 979 = .ok (.iconst 1, 1) := dk_4 (dk_at dksL_law_35 11 rfl rfl)
theorem dL_law_980 : decode cL_law 980 = .ok (.iadd, 1) := dk_96 (dk_at dksL_law_35 12 rfl rfl)
theorem dL_law_981 : decode cL_law 981 = .ok (.iaload, 1) := dk_46 (dk_at dksL_law_35 13 rfl rfl)
theorem dL_law_982 : decode cL_law 982 = .ok (.aload_n 0, 1) := dk_42 (dk_at dksL_law_35 14 rfl rfl)
theorem dL_law_983 : decode cL_law 983 = .ok (.iload 4, 2) := dk_21 4 (dk_at dksL_law_35 15 rfl rfl)
theorem dL_law_985 : decode cL_law 985 = .ok (.iconst 2, 1) := dk_5 (dk_at dksL_law_35 17 rfl rfl)
theorem dL_law_986 : decode cL_law 986 = .ok (.iadd, 1) := dk_96 (dk_at dksL_law_35 18 rfl rfl)
theorem dL_law_987 : decode cL_law 987 = .ok (.iaload, 1) := dk_46 (dk_at dksL_law_35 19 rfl rfl)
theorem dL_law_988 : decode cL_law 988 = .ok (.invokevirtual 168, 3) := dk_182 0 168 (dk_at dksL_law_35 20 rfl rfl)
theorem dL_law_991 : decode cL_law 991 = .ok (.istore 6, 2) := dk_54 6 (dk_at dksL_law_36 0 rfl rfl)
theorem dL_law_993 : decode cL_law 993 = .ok (.aload_n 2, 1) := dk_44 (dk_at dksL_law_36 2 rfl rfl)
theorem dL_law_994 : decode cL_law 994 = .ok (.invokevirtual 116, 3) := dk_182 0 116 (dk_at dksL_law_36 3 rfl rfl)
theorem dL_law_997 : decode cL_law 997 = .ok (.iload 5, 2) := dk_21 5 (dk_at dksL_law_36 6 rfl rfl)
theorem dL_law_999 : decode cL_law 999 = .ok (.if_icmp .eq 5, 3) := dk_159 0 5 (dk_at dksL_law_36 8 rfl rfl)
theorem dL_law_1002 : decode cL_law 1002 = .ok (.iconst 0, 1) := dk_3 (dk_at dksL_law_36 11 rfl rfl)
theorem dL_law_1003 : decode cL_law 1003 = .ok (.ireturn, 1) := dk_172 (dk_at dksL_law_36 12 rfl rfl)
theorem dL_law_1004 : decode cL_law 1004 = .ok (.iload 5, 2) := dk_21 5 (dk_at dksL_law_36 13 rfl rfl)
theorem dL_law_1006 : decode cL_law 1006 = .ok (.ifCond .ne 15, 3) := dk_154 0 15 (dk_at dksL_law_36 15 rfl rfl)
theorem dL_law_1009 : decode cL_law 1009 = .ok (.aload_n 3, 1) := dk_45 (dk_at dksL_law_36 18 rfl rfl)
theorem dL_law_1010 : decode cL_law 1010 = .ok (.iconst 0, 1) := dk_3 (dk_at dksL_law_36 19 rfl rfl)
theorem dL_law_1011 : decode cL_law 1011 = .ok (.laload, 1) := dk_47 (dk_at dksL_law_36 20 rfl rfl)
theorem dL_law_1012 : decode cL_law 1012 = .ok (.iload 6, 2) := dk_21 6 (dk_at dksL_law_36 21 rfl rfl)
theorem dL_law_1014 : decode cL_law 1014 = .ok (.i2l, 1) := dk_133 (dk_at dksL_law_36 23 rfl rfl)
theorem dL_law_1015 : decode cL_law 1015 = .ok (.lcmp, 1) := dk_148 (dk_at dksL_law_37 0 rfl rfl)
theorem dL_law_1016 : decode cL_law 1016 = .ok (.ifCond .eq 5, 3) := dk_153 0 5 (dk_at dksL_law_37 1 rfl rfl)
theorem dL_law_1019 : decode cL_law 1019 = .ok (.iconst 0, 1) := dk_3 (dk_at dksL_law_37 4 rfl rfl)
theorem dL_law_1020 : decode cL_law 1020 = .ok (.ireturn, 1) := dk_172 (dk_at dksL_law_37 5 rfl rfl)
theorem dL_law_1021 : decode cL_law 1021 = .ok (.goto 1186, 3) := dk_167 4 162 (dk_at dksL_law_37 6 rfl rfl)
theorem dL_law_1024 : decode cL_law 1024 = .ok (.aload_n 1, 1) := dk_43 (dk_at dksL_law_37 9 rfl rfl)
theorem dL_law_1025 : decode cL_law 1025 = .ok (.aload_n 0, 1) := dk_42 (dk_at dksL_law_37 10 rfl rfl)
theorem dL_law_1026 : decode cL_law 1026 = .ok (.iload 4, 2) := dk_21 4 (dk_at dksL_law_37 11 rfl rfl)
theorem dL_law_1028 : decode cL_law 1028 = .ok (.iconst 1, 1) := dk_4 (dk_at dksL_law_37 13 rfl rfl)
theorem dL_law_1029 : decode cL_law 1029 = .ok (.iadd, 1) := dk_96 (dk_at dksL_law_37 14 rfl rfl)
theorem dL_law_1030 : decode cL_law 1030 = .ok (.iaload, 1) := dk_46 (dk_at dksL_law_37 15 rfl rfl)
theorem dL_law_1031 : decode cL_law 1031 = .ok (.aload_n 0, 1) := dk_42 (dk_at dksL_law_37 16 rfl rfl)
theorem dL_law_1032 : decode cL_law 1032 = .ok (.iload 4, 2) := dk_21 4 (dk_at dksL_law_37 17 rfl rfl)
theorem dL_law_1034 : decode cL_law 1034 = .ok (.iconst 2, 1) := dk_5 (dk_at dksL_law_37 19 rfl rfl)
theorem dL_law_1035 : decode cL_law 1035 = .ok (.iadd, 1) := dk_96 (dk_at dksL_law_37 20 rfl rfl)
theorem dL_law_1036 : decode cL_law 1036 = .ok (.iaload, 1) := dk_46 (dk_at dksL_law_37 21 rfl rfl)
theorem dL_law_1037 : decode cL_law 1037 = .ok (.aload_n 3, 1) := dk_45 (dk_at dksL_law_37 22 rfl rfl)
theorem dL_law_1038 : decode cL_law 1038 = .ok (.invokestatic 169, 3) := dk_184 0 169 (dk_at dksL_law_38 0 rfl rfl)
theorem dL_law_1041 : decode cL_law 1041 = .ok (.istore 5, 2) := dk_54 5 (dk_at dksL_law_38 3 rfl rfl)
theorem dL_law_1043 : decode cL_law 1043 = .ok (.aload_n 2, 1) := dk_44 (dk_at dksL_law_38 5 rfl rfl)
theorem dL_law_1044 : decode cL_law 1044 = .ok (.aload_n 0, 1) := dk_42 (dk_at dksL_law_38 6 rfl rfl)
theorem dL_law_1045 : decode cL_law 1045 = .ok (.iload 4, 2) := dk_21 4 (dk_at dksL_law_38 7 rfl rfl)
theorem dL_law_1047 : decode cL_law 1047 = .ok (.iconst 1, 1) := dk_4 (dk_at dksL_law_38 9 rfl rfl)
theorem dL_law_1048 : decode cL_law 1048 = .ok (.iadd, 1) := dk_96 (dk_at dksL_law_38 10 rfl rfl)
theorem dL_law_1049 : decode cL_law 1049 = .ok (.iaload, 1) := dk_46 (dk_at dksL_law_38 11 rfl rfl)
theorem dL_law_1050 : decode cL_law 1050 = .ok (.aload_n 0, 1) := dk_42 (dk_at dksL_law_38 12 rfl rfl)
theorem dL_law_1051 : decode cL_law 1051 = .ok (.iload 4, 2) := dk_21 4 (dk_at dksL_law_38 13 rfl rfl)
theorem dL_law_1053 : decode cL_law 1053 = .ok (.iconst 2, 1) := dk_5 (dk_at dksL_law_38 15 rfl rfl)
theorem dL_law_1054 : decode cL_law 1054 = .ok (.iadd, 1) := dk_96 (dk_at dksL_law_38 16 rfl rfl)
theorem dL_law_1055 : decode cL_law 1055 = .ok (.iaload, 1) := dk_46 (dk_at dksL_law_38 17 rfl rfl)
theorem dL_law_1056 : decode cL_law 1056 = .ok (.invokevirtual 171, 3) := dk_182 0 171 (dk_at dksL_law_38 18 rfl rfl)
theorem dL_law_1059 : decode cL_law 1059 = .ok (.istore 6, 2) := dk_54 6 (dk_at dksL_law_38 21 rfl rfl)
theorem dL_law_1061 : decode cL_law 1061 = .ok (.aload_n 2, 1) := dk_44 (dk_at dksL_law_38 23 rfl rfl)
theorem dL_law_1062 : decode cL_law 1062 = .ok (.invokevirtual 116, 3) := dk_182 0 116 (dk_at dksL_law_39 0 rfl rfl)
theorem dL_law_1065 : decode cL_law 1065 = .ok (.iload 5, 2) := dk_21 5 (dk_at dksL_law_39 3 rfl rfl)
theorem dL_law_1067 : decode cL_law 1067 = .ok (.if_icmp .eq 5, 3) := dk_159 0 5 (dk_at dksL_law_39 5 rfl rfl)
theorem dL_law_1070 : decode cL_law 1070 = .ok (.iconst 0, 1) := dk_3 (dk_at dksL_law_39 8 rfl rfl)
theorem dL_law_1071 : decode cL_law 1071 = .ok (.ireturn, 1) := dk_172 (dk_at dksL_law_39 9 rfl rfl)
theorem dL_law_1072 : decode cL_law 1072 = .ok (.iload 5, 2) := dk_21 5 (dk_at dksL_law_39 10 rfl rfl)
theorem dL_law_1074 : decode cL_law 1074 = .ok (.ifCond .ne 15, 3) := dk_154 0 15 (dk_at dksL_law_39 12 rfl rfl)
theorem dL_law_1077 : decode cL_law 1077 = .ok (.aload_n 3, 1) := dk_45 (dk_at dksL_law_39 15 rfl rfl)
theorem dL_law_1078 : decode cL_law 1078 = .ok (.iconst 0, 1) := dk_3 (dk_at dksL_law_39 16 rfl rfl)
theorem dL_law_1079 : decode cL_law 1079 = .ok (.laload, 1) := dk_47 (dk_at dksL_law_39 17 rfl rfl)
theorem dL_law_1080 : decode cL_law 1080 = .ok (.iload 6, 2) := dk_21 6 (dk_at dksL_law_39 18 rfl rfl)
theorem dL_law_1082 : decode cL_law 1082 = .ok (.i2l, 1) := dk_133 (dk_at dksL_law_39 20 rfl rfl)
theorem dL_law_1083 : decode cL_law 1083 = .ok (.lcmp, 1) := dk_148 (dk_at dksL_law_39 21 rfl rfl)
theorem dL_law_1084 : decode cL_law 1084 = .ok (.ifCond .eq 5, 3) := dk_153 0 5 (dk_at dksL_law_40 0 rfl rfl)
theorem dL_law_1087 : decode cL_law 1087 = .ok (.iconst 0, 1) := dk_3 (dk_at dksL_law_40 3 rfl rfl)
theorem dL_law_1088 : decode cL_law 1088 = .ok (.ireturn, 1) := dk_172 (dk_at dksL_law_40 4 rfl rfl)
theorem dL_law_1089 : decode cL_law 1089 = .ok (.goto 1118, 3) := dk_167 4 94 (dk_at dksL_law_40 5 rfl rfl)
theorem dL_law_1092 : decode cL_law 1092 = .ok (.aload_n 1, 1) := dk_43 (dk_at dksL_law_40 8 rfl rfl)
theorem dL_law_1093 : decode cL_law 1093 = .ok (.aload_n 0, 1) := dk_42 (dk_at dksL_law_40 9 rfl rfl)
theorem dL_law_1094 : decode cL_law 1094 = .ok (.iload 4, 2) := dk_21 4 (dk_at dksL_law_40 10 rfl rfl)
theorem dL_law_1096 : decode cL_law 1096 = .ok (.iconst 1, 1) := dk_4 (dk_at dksL_law_40 12 rfl rfl)
theorem dL_law_1097 : decode cL_law 1097 = .ok (.iadd, 1) := dk_96 (dk_at dksL_law_40 13 rfl rfl)
theorem dL_law_1098 : decode cL_law 1098 = .ok (.iaload, 1) := dk_46 (dk_at dksL_law_40 14 rfl rfl)
theorem dL_law_1099 : decode cL_law 1099 = .ok (.aload_n 0, 1) := dk_42 (dk_at dksL_law_40 15 rfl rfl)
theorem dL_law_1100 : decode cL_law 1100 = .ok (.iload 4, 2) := dk_21 4 (dk_at dksL_law_40 16 rfl rfl)
theorem dL_law_1102 : decode cL_law 1102 = .ok (.iconst 2, 1) := dk_5 (dk_at dksL_law_40 18 rfl rfl)
theorem dL_law_1103 : decode cL_law 1103 = .ok (.iadd, 1) := dk_96 (dk_at dksL_law_40 19 rfl rfl)
theorem dL_law_1104 : decode cL_law 1104 = .ok (.iaload, 1) := dk_46 (dk_at dksL_law_40 20 rfl rfl)
theorem dL_law_1105 : decode cL_law 1105 = .ok (.aload_n 3, 1) := dk_45 (dk_at dksL_law_40 21 rfl rfl)
theorem dL_law_1106 : decode cL_law 1106 = .ok (.invokestatic 172, 3) := dk_184 0 172 (dk_at dksL_law_41 0 rfl rfl)
theorem dL_law_1109 : decode cL_law 1109 = .ok (.istore 5, 2) := dk_54 5 (dk_at dksL_law_41 3 rfl rfl)
theorem dL_law_1111 : decode cL_law 1111 = .ok (.aload_n 2, 1) := dk_44 (dk_at dksL_law_41 5 rfl rfl)
theorem dL_law_1112 : decode cL_law 1112 = .ok (.aload_n 0, 1) := dk_42 (dk_at dksL_law_41 6 rfl rfl)
theorem dL_law_1113 : decode cL_law 1113 = .ok (.iload 4, 2) := dk_21 4 (dk_at dksL_law_41 7 rfl rfl)
theorem dL_law_1115 : decode cL_law 1115 = .ok (.iconst 1, 1) := dk_4 (dk_at dksL_law_41 9 rfl rfl)
theorem dL_law_1116 : decode cL_law 1116 = .ok (.iadd, 1) := dk_96 (dk_at dksL_law_41 10 rfl rfl)
theorem dL_law_1117 : decode cL_law 1117 = .ok (.iaload, 1) := dk_46 (dk_at dksL_law_41 11 rfl rfl)
theorem dL_law_1118 : decode cL_law 1118 = .ok (.aload_n 0, 1) := dk_42 (dk_at dksL_law_41 12 rfl rfl)
theorem dL_law_1119 : decode cL_law 1119 = .ok (.iload 4, 2) := dk_21 4 (dk_at dksL_law_41 13 rfl rfl)
theorem dL_law_1121 : decode cL_law 1121 = .ok (.iconst 2, 1) := dk_5 (dk_at dksL_law_41 15 rfl rfl)
theorem dL_law_1122 : decode cL_law 1122 = .ok (.iadd, 1) := dk_96 (dk_at dksL_law_41 16 rfl rfl)
theorem dL_law_1123 : decode cL_law 1123 = .ok (.iaload, 1) := dk_46 (dk_at dksL_law_41 17 rfl rfl)
theorem dL_law_1124 : decode cL_law 1124 = .ok (.invokevirtual 174, 3) := dk_182 0 174 (dk_at dksL_law_41 18 rfl rfl)
theorem dL_law_1127 : decode cL_law 1127 = .ok (.istore 6, 2) := dk_54 6 (dk_at dksL_law_41 21 rfl rfl)
theorem dL_law_1129 : decode cL_law 1129 = .ok (.aload_n 2, 1) := dk_44 (dk_at dksL_law_41 23 rfl rfl)
theorem dL_law_1130 : decode cL_law 1130 = .ok (.invokevirtual 116, 3) := dk_182 0 116 (dk_at dksL_law_42 0 rfl rfl)
theorem dL_law_1133 : decode cL_law 1133 = .ok (.iload 5, 2) := dk_21 5 (dk_at dksL_law_42 3 rfl rfl)
theorem dL_law_1135 : decode cL_law 1135 = .ok (.if_icmp .eq 5, 3) := dk_159 0 5 (dk_at dksL_law_42 5 rfl rfl)
theorem dL_law_1138 : decode cL_law 1138 = .ok (.iconst 0, 1) := dk_3 (dk_at dksL_law_42 8 rfl rfl)
theorem dL_law_1139 : decode cL_law 1139 = .ok (.ireturn, 1) := dk_172 (dk_at dksL_law_42 9 rfl rfl)
theorem dL_law_1140 : decode cL_law 1140 = .ok (.iload 5, 2) := dk_21 5 (dk_at dksL_law_42 10 rfl rfl)
theorem dL_law_1142 : decode cL_law 1142 = .ok (.ifCond .ne 15, 3) := dk_154 0 15 (dk_at dksL_law_42 12 rfl rfl)
theorem dL_law_1145 : decode cL_law 1145 = .ok (.aload_n 3, 1) := dk_45 (dk_at dksL_law_42 15 rfl rfl)
theorem dL_law_1146 : decode cL_law 1146 = .ok (.iconst 0, 1) := dk_3 (dk_at dksL_law_42 16 rfl rfl)
theorem dL_law_1147 : decode cL_law 1147 = .ok (.laload, 1) := dk_47 (dk_at dksL_law_42 17 rfl rfl)
theorem dL_law_1148 : decode cL_law 1148 = .ok (.iload 6, 2) := dk_21 6 (dk_at dksL_law_42 18 rfl rfl)
theorem dL_law_1150 : decode cL_law 1150 = .ok (.i2l, 1) := dk_133 (dk_at dksL_law_42 20 rfl rfl)
theorem dL_law_1151 : decode cL_law 1151 = .ok (.lcmp, 1) := dk_148 (dk_at dksL_law_42 21 rfl rfl)
theorem dL_law_1152 : decode cL_law 1152 = .ok (.ifCond .eq 5, 3) := dk_153 0 5 (dk_at dksL_law_43 0 rfl rfl)
theorem dL_law_1155 : decode cL_law 1155 = .ok (.iconst 0, 1) := dk_3 (dk_at dksL_law_43 3 rfl rfl)
theorem dL_law_1156 : decode cL_law 1156 = .ok (.ireturn, 1) := dk_172 (dk_at dksL_law_43 4 rfl rfl)
theorem dL_law_1157 : decode cL_law 1157 = .ok (.goto 1050, 3) := dk_167 4 26 (dk_at dksL_law_43 5 rfl rfl)
theorem dL_law_1160 : decode cL_law 1160 = .ok (.aload_n 1, 1) := dk_43 (dk_at dksL_law_43 8 rfl rfl)
theorem dL_law_1161 : decode cL_law 1161 = .ok (.aload_n 0, 1) := dk_42 (dk_at dksL_law_43 9 rfl rfl)
theorem dL_law_1162 : decode cL_law 1162 = .ok (.iload 4, 2) := dk_21 4 (dk_at dksL_law_43 10 rfl rfl)
theorem dL_law_1164 : decode cL_law 1164 = .ok (.iconst 1, 1) := dk_4 (dk_at dksL_law_43 12 rfl rfl)
theorem dL_law_1165 : decode cL_law 1165 = .ok (.iadd, 1) := dk_96 (dk_at dksL_law_43 13 rfl rfl)
theorem dL_law_1166 : decode cL_law 1166 = .ok (.iaload, 1) := dk_46 (dk_at dksL_law_43 14 rfl rfl)
theorem dL_law_1167 : decode cL_law 1167 = .ok (.aload_n 0, 1) := dk_42 (dk_at dksL_law_43 15 rfl rfl)
theorem dL_law_1168 : decode cL_law 1168 = .ok (.iload 4, 2) := dk_21 4 (dk_at dksL_law_43 16 rfl rfl)
theorem dL_law_1170 : decode cL_law 1170 = .ok (.iconst 2, 1) := dk_5 (dk_at dksL_law_43 18 rfl rfl)
theorem dL_law_1171 : decode cL_law 1171 = .ok (.iadd, 1) := dk_96 (dk_at dksL_law_43 19 rfl rfl)
theorem dL_law_1172 : decode cL_law 1172 = .ok (.iaload, 1) := dk_46 (dk_at dksL_law_43 20 rfl rfl)
theorem dL_law_1173 : decode cL_law 1173 = .ok (.aload_n 0, 1) := dk_42 (dk_at dksL_law_43 21 rfl rfl)
theorem dL_law_1174 : decode cL_law 1174 = .ok (.iload 4, 2) := dk_21 4 (dk_at dksL_law_43 22 rfl rfl)
theorem dL_law_1176 : decode cL_law 1176 = .ok (.iconst 3, 1) := dk_6 (dk_at dksL_law_44 0 rfl rfl)
theorem dL_law_1177 : decode cL_law 1177 = .ok (.iadd, 1) := dk_96 (dk_at dksL_law_44 1 rfl rfl)
theorem dL_law_1178 : decode cL_law 1178 = .ok (.iaload, 1) := dk_46 (dk_at dksL_law_44 2 rfl rfl)
theorem dL_law_1179 : decode cL_law 1179 = .ok (.aload_n 3, 1) := dk_45 (dk_at dksL_law_44 3 rfl rfl)
theorem dL_law_1180 : decode cL_law 1180 = .ok (.invokestatic 175, 3) := dk_184 0 175 (dk_at dksL_law_44 4 rfl rfl)
theorem dL_law_1183 : decode cL_law 1183 = .ok (.istore 5, 2) := dk_54 5 (dk_at dksL_law_44 7 rfl rfl)
theorem dL_law_1185 : decode cL_law 1185 = .ok (.aload_n 2, 1) := dk_44 (dk_at dksL_law_44 9 rfl rfl)
theorem dL_law_1186 : decode cL_law 1186 = .ok (.aload_n 0, 1) := dk_42 (dk_at dksL_law_44 10 rfl rfl)
theorem dL_law_1187 : decode cL_law 1187 = .ok (.iload 4, 2) := dk_21 4 (dk_at dksL_law_44 11 rfl rfl)
theorem dL_law_1189 : decode cL_law 1189 = .ok (.iconst 1, 1) := dk_4 (dk_at dksL_law_44 13 rfl rfl)
theorem dL_law_1190 : decode cL_law 1190 = .ok (.iadd, 1) := dk_96 (dk_at dksL_law_44 14 rfl rfl)
theorem dL_law_1191 : decode cL_law 1191 = .ok (.iaload, 1) := dk_46 (dk_at dksL_law_44 15 rfl rfl)
theorem dL_law_1192 : decode cL_law 1192 = .ok (.aload_n 0, 1) := dk_42 (dk_at dksL_law_44 16 rfl rfl)
theorem dL_law_1193 : decode cL_law 1193 = .ok (.iload 4, 2) := dk_21 4 (dk_at dksL_law_44 17 rfl rfl)
theorem dL_law_1195 : decode cL_law 1195 = .ok (.iconst 2, 1) := dk_5 (dk_at dksL_law_44 19 rfl rfl)
theorem dL_law_1196 : decode cL_law 1196 = .ok (.iadd, 1) := dk_96 (dk_at dksL_law_44 20 rfl rfl)
theorem dL_law_1197 : decode cL_law 1197 = .ok (.iaload, 1) := dk_46 (dk_at dksL_law_44 21 rfl rfl)
theorem dL_law_1198 : decode cL_law 1198 = .ok (.aload_n 0, 1) := dk_42 (dk_at dksL_law_44 22 rfl rfl)
theorem dL_law_1199 : decode cL_law 1199 = .ok (.iload 4, 2) := dk_21 4 (dk_at dksL_law_45 0 rfl rfl)
theorem dL_law_1201 : decode cL_law 1201 = .ok (.iconst 3, 1) := dk_6 (dk_at dksL_law_45 2 rfl rfl)
theorem dL_law_1202 : decode cL_law 1202 = .ok (.iadd, 1) := dk_96 (dk_at dksL_law_45 3 rfl rfl)
theorem dL_law_1203 : decode cL_law 1203 = .ok (.iaload, 1) := dk_46 (dk_at dksL_law_45 4 rfl rfl)
theorem dL_law_1204 : decode cL_law 1204 = .ok (.invokevirtual 177, 3) := dk_182 0 177 (dk_at dksL_law_45 5 rfl rfl)
theorem dL_law_1207 : decode cL_law 1207 = .ok (.istore 6, 2) := dk_54 6 (dk_at dksL_law_45 8 rfl rfl)
theorem dL_law_1209 : decode cL_law 1209 = .ok (.aload_n 2, 1) := dk_44 (dk_at dksL_law_45 10 rfl rfl)
theorem dL_law_1210 : decode cL_law 1210 = .ok (.invokevirtual 116, 3) := dk_182 0 116 (dk_at dksL_law_45 11 rfl rfl)
theorem dL_law_1213 : decode cL_law 1213 = .ok (.iload 5, 2) := dk_21 5 (dk_at dksL_law_45 14 rfl rfl)
theorem dL_law_1215 : decode cL_law 1215 = .ok (.if_icmp .eq 5, 3) := dk_159 0 5 (dk_at dksL_law_45 16 rfl rfl)
theorem dL_law_1218 : decode cL_law 1218 = .ok (.iconst 0, 1) := dk_3 (dk_at dksL_law_45 19 rfl rfl)
theorem dL_law_1219 : decode cL_law 1219 = .ok (.ireturn, 1) := dk_172 (dk_at dksL_law_45 20 rfl rfl)
theorem dL_law_1220 : decode cL_law 1220 = .ok (.iload 5, 2) := dk_21 5 (dk_at dksL_law_45 21 rfl rfl)
theorem dL_law_1222 : decode cL_law 1222 = .ok (.ifCond .ne 15, 3) := dk_154 0 15 (dk_at dksL_law_46 0 rfl rfl)
theorem dL_law_1225 : decode cL_law 1225 = .ok (.aload_n 3, 1) := dk_45 (dk_at dksL_law_46 3 rfl rfl)
theorem dL_law_1226 : decode cL_law 1226 = .ok (.iconst 0, 1) := dk_3 (dk_at dksL_law_46 4 rfl rfl)
theorem dL_law_1227 : decode cL_law 1227 = .ok (.laload, 1) := dk_47 (dk_at dksL_law_46 5 rfl rfl)
theorem dL_law_1228 : decode cL_law 1228 = .ok (.iload 6, 2) := dk_21 6 (dk_at dksL_law_46 6 rfl rfl)
theorem dL_law_1230 : decode cL_law 1230 = .ok (.i2l, 1) := dk_133 (dk_at dksL_law_46 8 rfl rfl)
theorem dL_law_1231 : decode cL_law 1231 = .ok (.lcmp, 1) := dk_148 (dk_at dksL_law_46 9 rfl rfl)
theorem dL_law_1232 : decode cL_law 1232 = .ok (.ifCond .eq 5, 3) := dk_153 0 5 (dk_at dksL_law_46 10 rfl rfl)
theorem dL_law_1235 : decode cL_law 1235 = .ok (.iconst 0, 1) := dk_3 (dk_at dksL_law_46 13 rfl rfl)
theorem dL_law_1236 : decode cL_law 1236 = .ok (.ireturn, 1) := dk_172 (dk_at dksL_law_46 14 rfl rfl)
theorem dL_law_1237 : decode cL_law 1237 = .ok (.goto 970, 3) := dk_167 3 202 (dk_at dksL_law_46 15 rfl rfl)
theorem dL_law_1240 : decode cL_law 1240 = .ok (.aload_n 1, 1) := dk_43 (dk_at dksL_law_46 18 rfl rfl)
theorem dL_law_1241 : decode cL_law 1241 = .ok (.aload_n 0, 1) := dk_42 (dk_at dksL_law_46 19 rfl rfl)
theorem dL_law_1242 : decode cL_law 1242 = .ok (.iload 4, 2) := dk_21 4 (dk_at dksL_law_46 20 rfl rfl)
theorem dL_law_1244 : decode cL_law 1244 = .ok (.iconst 1, 1) := dk_4 (dk_at dksL_law_46 22 rfl rfl)
theorem dL_law_1245 : decode cL_law 1245 = .ok (.iadd, 1) := dk_96 (dk_at dksL_law_46 23 rfl rfl)
theorem dL_law_1246 : decode cL_law 1246 = .ok (.iaload, 1) := dk_46 (dk_at dksL_law_47 0 rfl rfl)
theorem dL_law_1247 : decode cL_law 1247 = .ok (.aload_n 3, 1) := dk_45 (dk_at dksL_law_47 1 rfl rfl)
theorem dL_law_1248 : decode cL_law 1248 = .ok (.invokestatic 178, 3) := dk_184 0 178 (dk_at dksL_law_47 2 rfl rfl)
theorem dL_law_1251 : decode cL_law 1251 = .ok (.istore 5, 2) := dk_54 5 (dk_at dksL_law_47 5 rfl rfl)
theorem dL_law_1253 : decode cL_law 1253 = .ok (.aload_n 2, 1) := dk_44 (dk_at dksL_law_47 7 rfl rfl)
theorem dL_law_1254 : decode cL_law 1254 = .ok (.aload_n 0, 1) := dk_42 (dk_at dksL_law_47 8 rfl rfl)
theorem dL_law_1255 : decode cL_law 1255 = .ok (.iload 4, 2) := dk_21 4 (dk_at dksL_law_47 9 rfl rfl)
theorem dL_law_1257 : decode cL_law 1257 = .ok (.iconst 1, 1) := dk_4 (dk_at dksL_law_47 11 rfl rfl)
theorem dL_law_1258 : decode cL_law 1258 = .ok (.iadd, 1) := dk_96 (dk_at dksL_law_47 12 rfl rfl)
theorem dL_law_1259 : decode cL_law 1259 = .ok (.iaload, 1) := dk_46 (dk_at dksL_law_47 13 rfl rfl)
theorem dL_law_1260 : decode cL_law 1260 = .ok (.invokevirtual 180, 3) := dk_182 0 180 (dk_at dksL_law_47 14 rfl rfl)
theorem dL_law_1263 : decode cL_law 1263 = .ok (.istore 6, 2) := dk_54 6 (dk_at dksL_law_47 17 rfl rfl)
theorem dL_law_1265 : decode cL_law 1265 = .ok (.aload_n 2, 1) := dk_44 (dk_at dksL_law_47 19 rfl rfl)
theorem dL_law_1266 : decode cL_law 1266 = .ok (.invokevirtual 116, 3) := dk_182 0 116 (dk_at dksL_law_47 20 rfl rfl)
theorem dL_law_1269 : decode cL_law 1269 = .ok (.iload 5, 2) := dk_21 5 (dk_at dksL_law_48 0 rfl rfl)
theorem dL_law_1271 : decode cL_law 1271 = .ok (.if_icmp .eq 5, 3) := dk_159 0 5 (dk_at dksL_law_48 2 rfl rfl)
theorem dL_law_1274 : decode cL_law 1274 = .ok (.iconst 0, 1) := dk_3 (dk_at dksL_law_48 5 rfl rfl)
theorem dL_law_1275 : decode cL_law 1275 = .ok (.ireturn, 1) := dk_172 (dk_at dksL_law_48 6 rfl rfl)
theorem dL_law_1276 : decode cL_law 1276 = .ok (.iload 5, 2) := dk_21 5 (dk_at dksL_law_48 7 rfl rfl)
theorem dL_law_1278 : decode cL_law 1278 = .ok (.ifCond .ne 15, 3) := dk_154 0 15 (dk_at dksL_law_48 9 rfl rfl)
theorem dL_law_1281 : decode cL_law 1281 = .ok (.aload_n 3, 1) := dk_45 (dk_at dksL_law_48 12 rfl rfl)
theorem dL_law_1282 : decode cL_law 1282 = .ok (.iconst 0, 1) := dk_3 (dk_at dksL_law_48 13 rfl rfl)
theorem dL_law_1283 : decode cL_law 1283 = .ok (.laload, 1) := dk_47 (dk_at dksL_law_48 14 rfl rfl)
theorem dL_law_1284 : decode cL_law 1284 = .ok (.iload 6, 2) := dk_21 6 (dk_at dksL_law_48 15 rfl rfl)
theorem dL_law_1286 : decode cL_law 1286 = .ok (.i2l, 1) := dk_133 (dk_at dksL_law_48 17 rfl rfl)
theorem dL_law_1287 : decode cL_law 1287 = .ok (.lcmp, 1) := dk_148 (dk_at dksL_law_48 18 rfl rfl)
theorem dL_law_1288 : decode cL_law 1288 = .ok (.ifCond .eq 5, 3) := dk_153 0 5 (dk_at dksL_law_48 19 rfl rfl)
theorem dL_law_1291 : decode cL_law 1291 = .ok (.iconst 0, 1) := dk_3 (dk_at dksL_law_48 22 rfl rfl)
theorem dL_law_1292 : decode cL_law 1292 = .ok (.ireturn, 1) := dk_172 (dk_at dksL_law_48 23 rfl rfl)
theorem dL_law_1293 : decode cL_law 1293 = .ok (.goto 914, 3) := dk_167 3 146 (dk_at dksL_law_49 0 rfl rfl)
theorem dL_law_1296 : decode cL_law 1296 = .ok (.aload_n 1, 1) := dk_43 (dk_at dksL_law_49 3 rfl rfl)
theorem dL_law_1297 : decode cL_law 1297 = .ok (.aload_n 0, 1) := dk_42 (dk_at dksL_law_49 4 rfl rfl)
theorem dL_law_1298 : decode cL_law 1298 = .ok (.iload 4, 2) := dk_21 4 (dk_at dksL_law_49 5 rfl rfl)
theorem dL_law_1300 : decode cL_law 1300 = .ok (.iconst 1, 1) := dk_4 (dk_at dksL_law_49 7 rfl rfl)
theorem dL_law_1301 : decode cL_law 1301 = .ok (.iadd, 1) := dk_96 (dk_at dksL_law_49 8 rfl rfl)
theorem dL_law_1302 : decode cL_law 1302 = .ok (.iaload, 1) := dk_46 (dk_at dksL_law_49 9 rfl rfl)
theorem dL_law_1303 : decode cL_law 1303 = .ok (.aload_n 0, 1) := dk_42 (dk_at dksL_law_49 10 rfl rfl)
theorem dL_law_1304 : decode cL_law 1304 = .ok (.iload 4, 2) := dk_21 4 (dk_at dksL_law_49 11 rfl rfl)
theorem dL_law_1306 : decode cL_law 1306 = .ok (.iconst 2, 1) := dk_5 (dk_at dksL_law_49 13 rfl rfl)
theorem dL_law_1307 : decode cL_law 1307 = .ok (.iadd, 1) := dk_96 (dk_at dksL_law_49 14 rfl rfl)
theorem dL_law_1308 : decode cL_law 1308 = .ok (.iaload, 1) := dk_46 (dk_at dksL_law_49 15 rfl rfl)
theorem dL_law_1309 : decode cL_law 1309 = .ok (.aload_n 3, 1) := dk_45 (dk_at dksL_law_49 16 rfl rfl)
theorem dL_law_1310 : decode cL_law 1310 = .ok (.invokestatic 181, 3) := dk_184 0 181 (dk_at dksL_law_49 17 rfl rfl)
theorem dL_law_1313 : decode cL_law 1313 = .ok (.istore 5, 2) := dk_54 5 (dk_at dksL_law_49 20 rfl rfl)
theorem dL_law_1315 : decode cL_law 1315 = .ok (.aload_n 2, 1) := dk_44 (dk_at dksL_law_49 22 rfl rfl)
theorem dL_law_1316 : decode cL_law 1316 = .ok (.aload_n 0, 1) := dk_42 (dk_at dksL_law_49 23 rfl rfl)
theorem dL_law_1317 : decode cL_law 1317 = .ok (.iload 4, 2) := dk_21 4 (dk_at dksL_law_50 0 rfl rfl)
theorem dL_law_1319 : decode cL_law 1319 = .ok (.iconst 1, 1) := dk_4 (dk_at dksL_law_50 2 rfl rfl)
theorem dL_law_1320 : decode cL_law 1320 = .ok (.iadd, 1) := dk_96 (dk_at dksL_law_50 3 rfl rfl)
theorem dL_law_1321 : decode cL_law 1321 = .ok (.iaload, 1) := dk_46 (dk_at dksL_law_50 4 rfl rfl)
theorem dL_law_1322 : decode cL_law 1322 = .ok (.aload_n 0, 1) := dk_42 (dk_at dksL_law_50 5 rfl rfl)
theorem dL_law_1323 : decode cL_law 1323 = .ok (.iload 4, 2) := dk_21 4 (dk_at dksL_law_50 6 rfl rfl)
theorem dL_law_1325 : decode cL_law 1325 = .ok (.iconst 2, 1) := dk_5 (dk_at dksL_law_50 8 rfl rfl)
theorem dL_law_1326 : decode cL_law 1326 = .ok (.iadd, 1) := dk_96 (dk_at dksL_law_50 9 rfl rfl)
theorem dL_law_1327 : decode cL_law 1327 = .ok (.iaload, 1) := dk_46 (dk_at dksL_law_50 10 rfl rfl)
theorem dL_law_1328 : decode cL_law 1328 = .ok (.invokevirtual 183, 3) := dk_182 0 183 (dk_at dksL_law_50 11 rfl rfl)
theorem dL_law_1331 : decode cL_law 1331 = .ok (.istore 6, 2) := dk_54 6 (dk_at dksL_law_50 14 rfl rfl)
theorem dL_law_1333 : decode cL_law 1333 = .ok (.aload_n 2, 1) := dk_44 (dk_at dksL_law_50 16 rfl rfl)
theorem dL_law_1334 : decode cL_law 1334 = .ok (.invokevirtual 116, 3) := dk_182 0 116 (dk_at dksL_law_50 17 rfl rfl)
theorem dL_law_1337 : decode cL_law 1337 = .ok (.iload 5, 2) := dk_21 5 (dk_at dksL_law_50 20 rfl rfl)
theorem dL_law_1339 : decode cL_law 1339 = .ok (.if_icmp .eq 5, 3) := dk_159 0 5 (dk_at dksL_law_51 0 rfl rfl)
theorem dL_law_1342 : decode cL_law 1342 = .ok (.iconst 0, 1) := dk_3 (dk_at dksL_law_51 3 rfl rfl)
theorem dL_law_1343 : decode cL_law 1343 = .ok (.ireturn, 1) := dk_172 (dk_at dksL_law_51 4 rfl rfl)
theorem dL_law_1344 : decode cL_law 1344 = .ok (.iload 5, 2) := dk_21 5 (dk_at dksL_law_51 5 rfl rfl)
theorem dL_law_1346 : decode cL_law 1346 = .ok (.ifCond .ne 15, 3) := dk_154 0 15 (dk_at dksL_law_51 7 rfl rfl)
theorem dL_law_1349 : decode cL_law 1349 = .ok (.aload_n 3, 1) := dk_45 (dk_at dksL_law_51 10 rfl rfl)
theorem dL_law_1350 : decode cL_law 1350 = .ok (.iconst 0, 1) := dk_3 (dk_at dksL_law_51 11 rfl rfl)
theorem dL_law_1351 : decode cL_law 1351 = .ok (.laload, 1) := dk_47 (dk_at dksL_law_51 12 rfl rfl)
theorem dL_law_1352 : decode cL_law 1352 = .ok (.iload 6, 2) := dk_21 6 (dk_at dksL_law_51 13 rfl rfl)
theorem dL_law_1354 : decode cL_law 1354 = .ok (.i2l, 1) := dk_133 (dk_at dksL_law_51 15 rfl rfl)
theorem dL_law_1355 : decode cL_law 1355 = .ok (.lcmp, 1) := dk_148 (dk_at dksL_law_51 16 rfl rfl)
theorem dL_law_1356 : decode cL_law 1356 = .ok (.ifCond .eq 5, 3) := dk_153 0 5 (dk_at dksL_law_51 17 rfl rfl)
theorem dL_law_1359 : decode cL_law 1359 = .ok (.iconst 0, 1) := dk_3 (dk_at dksL_law_51 20 rfl rfl)
theorem dL_law_1360 : decode cL_law 1360 = .ok (.ireturn, 1) := dk_172 (dk_at dksL_law_51 21 rfl rfl)
theorem dL_law_1361 : decode cL_law 1361 = .ok (.goto 846, 3) := dk_167 3 78 (dk_at dksL_law_52 0 rfl rfl)
theorem dL_law_1364 : decode cL_law 1364 = .ok (.aload_n 1, 1) := dk_43 (dk_at dksL_law_52 3 rfl rfl)
theorem dL_law_1365 : decode cL_law 1365 = .ok (.aload_n 0, 1) := dk_42 (dk_at dksL_law_52 4 rfl rfl)
theorem dL_law_1366 : decode cL_law 1366 = .ok (.iload 4, 2) := dk_21 4 (dk_at dksL_law_52 5 rfl rfl)
theorem dL_law_1368 : decode cL_law 1368 = .ok (.iconst 1, 1) := dk_4 (dk_at dksL_law_52 7 rfl rfl)
theorem dL_law_1369 : decode cL_law 1369 = .ok (.iadd, 1) := dk_96 (dk_at dksL_law_52 8 rfl rfl)
theorem dL_law_1370 : decode cL_law 1370 = .ok (.iaload, 1) := dk_46 (dk_at dksL_law_52 9 rfl rfl)
theorem dL_law_1371 : decode cL_law 1371 = .ok (.aload_n 3, 1) := dk_45 (dk_at dksL_law_52 10 rfl rfl)
theorem dL_law_1372 : decode cL_law 1372 = .ok (.invokestatic 184, 3) := dk_184 0 184 (dk_at dksL_law_52 11 rfl rfl)
theorem dL_law_1375 : decode cL_law 1375 = .ok (.istore 5, 2) := dk_54 5 (dk_at dksL_law_52 14 rfl rfl)
theorem dL_law_1377 : decode cL_law 1377 = .ok (.aload_n 2, 1) := dk_44 (dk_at dksL_law_52 16 rfl rfl)
theorem dL_law_1378 : decode cL_law 1378 = .ok (.aload_n 0, 1) := dk_42 (dk_at dksL_law_52 17 rfl rfl)
theorem dL_law_1379 : decode cL_law 1379 = .ok (.iload 4, 2) := dk_21 4 (dk_at dksL_law_52 18 rfl rfl)
theorem dL_law_1381 : decode cL_law 1381 = .ok (.iconst 1, 1) := dk_4 (dk_at dksL_law_52 20 rfl rfl)
theorem dL_law_1382 : decode cL_law 1382 = .ok (.iadd, 1) := dk_96 (dk_at dksL_law_52 21 rfl rfl)
theorem dL_law_1383 : decode cL_law 1383 = .ok (.iaload, 1) := dk_46 (dk_at dksL_law_52 22 rfl rfl)
theorem dL_law_1384 : decode cL_law 1384 = .ok (.invokevirtual 186, 3) := dk_182 0 186 (dk_at dksL_law_53 0 rfl rfl)
theorem dL_law_1387 : decode cL_law 1387 = .ok (.istore 6, 2) := dk_54 6 (dk_at dksL_law_53 3 rfl rfl)
theorem dL_law_1389 : decode cL_law 1389 = .ok (.aload_n 2, 1) := dk_44 (dk_at dksL_law_53 5 rfl rfl)
theorem dL_law_1390 : decode cL_law 1390 = .ok (.invokevirtual 116, 3) := dk_182 0 116 (dk_at dksL_law_53 6 rfl rfl)
theorem dL_law_1393 : decode cL_law 1393 = .ok (.iload 5, 2) := dk_21 5 (dk_at dksL_law_53 9 rfl rfl)
theorem dL_law_1395 : decode cL_law 1395 = .ok (.if_icmp .eq 5, 3) := dk_159 0 5 (dk_at dksL_law_53 11 rfl rfl)
theorem dL_law_1398 : decode cL_law 1398 = .ok (.iconst 0, 1) := dk_3 (dk_at dksL_law_53 14 rfl rfl)
theorem dL_law_1399 : decode cL_law 1399 = .ok (.ireturn, 1) := dk_172 (dk_at dksL_law_53 15 rfl rfl)
theorem dL_law_1400 : decode cL_law 1400 = .ok (.iload 5, 2) := dk_21 5 (dk_at dksL_law_53 16 rfl rfl)
theorem dL_law_1402 : decode cL_law 1402 = .ok (.ifCond .ne 15, 3) := dk_154 0 15 (dk_at dksL_law_53 18 rfl rfl)
theorem dL_law_1405 : decode cL_law 1405 = .ok (.aload_n 3, 1) := dk_45 (dk_at dksL_law_53 21 rfl rfl)
theorem dL_law_1406 : decode cL_law 1406 = .ok (.iconst 0, 1) := dk_3 (dk_at dksL_law_53 22 rfl rfl)
theorem dL_law_1407 : decode cL_law 1407 = .ok (.laload, 1) := dk_47 (dk_at dksL_law_53 23 rfl rfl)
theorem dL_law_1408 : decode cL_law 1408 = .ok (.iload 6, 2) := dk_21 6 (dk_at dksL_law_54 0 rfl rfl)
theorem dL_law_1410 : decode cL_law 1410 = .ok (.i2l, 1) := dk_133 (dk_at dksL_law_54 2 rfl rfl)
theorem dL_law_1411 : decode cL_law 1411 = .ok (.lcmp, 1) := dk_148 (dk_at dksL_law_54 3 rfl rfl)
theorem dL_law_1412 : decode cL_law 1412 = .ok (.ifCond .eq 5, 3) := dk_153 0 5 (dk_at dksL_law_54 4 rfl rfl)
theorem dL_law_1415 : decode cL_law 1415 = .ok (.iconst 0, 1) := dk_3 (dk_at dksL_law_54 7 rfl rfl)
theorem dL_law_1416 : decode cL_law 1416 = .ok (.ireturn, 1) := dk_172 (dk_at dksL_law_54 8 rfl rfl)
theorem dL_law_1417 : decode cL_law 1417 = .ok (.goto 790, 3) := dk_167 3 22 (dk_at dksL_law_54 9 rfl rfl)
theorem dL_law_1420 : decode cL_law 1420 = .ok (.aload_n 1, 1) := dk_43 (dk_at dksL_law_54 12 rfl rfl)
theorem dL_law_1421 : decode cL_law 1421 = .ok (.aload_n 0, 1) := dk_42 (dk_at dksL_law_54 13 rfl rfl)
theorem dL_law_1422 : decode cL_law 1422 = .ok (.iload 4, 2) := dk_21 4 (dk_at dksL_law_54 14 rfl rfl)
theorem dL_law_1424 : decode cL_law 1424 = .ok (.iconst 1, 1) := dk_4 (dk_at dksL_law_54 16 rfl rfl)
theorem dL_law_1425 : decode cL_law 1425 = .ok (.iadd, 1) := dk_96 (dk_at dksL_law_54 17 rfl rfl)
theorem dL_law_1426 : decode cL_law 1426 = .ok (.iaload, 1) := dk_46 (dk_at dksL_law_54 18 rfl rfl)
theorem dL_law_1427 : decode cL_law 1427 = .ok (.aload_n 0, 1) := dk_42 (dk_at dksL_law_54 19 rfl rfl)
theorem dL_law_1428 : decode cL_law 1428 = .ok (.iload 4, 2) := dk_21 4 (dk_at dksL_law_54 20 rfl rfl)
theorem dL_law_1430 : decode cL_law 1430 = .ok (.iconst 2, 1) := dk_5 (dk_at dksL_law_54 22 rfl rfl)
theorem dL_law_1431 : decode cL_law 1431 = .ok (.iadd, 1) := dk_96 (dk_at dksL_law_54 23 rfl rfl)
theorem dL_law_1432 : decode cL_law 1432 = .ok (.iaload, 1) := dk_46 (dk_at dksL_law_55 0 rfl rfl)
theorem dL_law_1433 : decode cL_law 1433 = .ok (.aload_n 3, 1) := dk_45 (dk_at dksL_law_55 1 rfl rfl)
theorem dL_law_1434 : decode cL_law 1434 = .ok (.invokestatic 187, 3) := dk_184 0 187 (dk_at dksL_law_55 2 rfl rfl)
theorem dL_law_1437 : decode cL_law 1437 = .ok (.istore 5, 2) := dk_54 5 (dk_at dksL_law_55 5 rfl rfl)
theorem dL_law_1439 : decode cL_law 1439 = .ok (.aload_n 2, 1) := dk_44 (dk_at dksL_law_55 7 rfl rfl)
theorem dL_law_1440 : decode cL_law 1440 = .ok (.aload_n 0, 1) := dk_42 (dk_at dksL_law_55 8 rfl rfl)
theorem dL_law_1441 : decode cL_law 1441 = .ok (.iload 4, 2) := dk_21 4 (dk_at dksL_law_55 9 rfl rfl)
theorem dL_law_1443 : decode cL_law 1443 = .ok (.iconst 1, 1) := dk_4 (dk_at dksL_law_55 11 rfl rfl)
theorem dL_law_1444 : decode cL_law 1444 = .ok (.iadd, 1) := dk_96 (dk_at dksL_law_55 12 rfl rfl)
theorem dL_law_1445 : decode cL_law 1445 = .ok (.iaload, 1) := dk_46 (dk_at dksL_law_55 13 rfl rfl)
theorem dL_law_1446 : decode cL_law 1446 = .ok (.aload_n 0, 1) := dk_42 (dk_at dksL_law_55 14 rfl rfl)
theorem dL_law_1447 : decode cL_law 1447 = .ok (.iload 4, 2) := dk_21 4 (dk_at dksL_law_55 15 rfl rfl)
theorem dL_law_1449 : decode cL_law 1449 = .ok (.iconst 2, 1) := dk_5 (dk_at dksL_law_55 17 rfl rfl)
theorem dL_law_1450 : decode cL_law 1450 = .ok (.iadd, 1) := dk_96 (dk_at dksL_law_55 18 rfl rfl)
theorem dL_law_1451 : decode cL_law 1451 = .ok (.iaload, 1) := dk_46 (dk_at dksL_law_55 19 rfl rfl)
theorem dL_law_1452 : decode cL_law 1452 = .ok (.invokevirtual 189, 3) := dk_182 0 189 (dk_at dksL_law_55 20 rfl rfl)
theorem dL_law_1455 : decode cL_law 1455 = .ok (.istore 6, 2) := dk_54 6 (dk_at dksL_law_56 0 rfl rfl)
theorem dL_law_1457 : decode cL_law 1457 = .ok (.aload_n 2, 1) := dk_44 (dk_at dksL_law_56 2 rfl rfl)
theorem dL_law_1458 : decode cL_law 1458 = .ok (.invokevirtual 116, 3) := dk_182 0 116 (dk_at dksL_law_56 3 rfl rfl)
theorem dL_law_1461 : decode cL_law 1461 = .ok (.iload 5, 2) := dk_21 5 (dk_at dksL_law_56 6 rfl rfl)
theorem dL_law_1463 : decode cL_law 1463 = .ok (.if_icmp .eq 5, 3) := dk_159 0 5 (dk_at dksL_law_56 8 rfl rfl)
theorem dL_law_1466 : decode cL_law 1466 = .ok (.iconst 0, 1) := dk_3 (dk_at dksL_law_56 11 rfl rfl)
theorem dL_law_1467 : decode cL_law 1467 = .ok (.ireturn, 1) := dk_172 (dk_at dksL_law_56 12 rfl rfl)
theorem dL_law_1468 : decode cL_law 1468 = .ok (.iload 5, 2) := dk_21 5 (dk_at dksL_law_56 13 rfl rfl)
theorem dL_law_1470 : decode cL_law 1470 = .ok (.ifCond .ne 15, 3) := dk_154 0 15 (dk_at dksL_law_56 15 rfl rfl)
theorem dL_law_1473 : decode cL_law 1473 = .ok (.aload_n 3, 1) := dk_45 (dk_at dksL_law_56 18 rfl rfl)
theorem dL_law_1474 : decode cL_law 1474 = .ok (.iconst 0, 1) := dk_3 (dk_at dksL_law_56 19 rfl rfl)
theorem dL_law_1475 : decode cL_law 1475 = .ok (.laload, 1) := dk_47 (dk_at dksL_law_56 20 rfl rfl)
theorem dL_law_1476 : decode cL_law 1476 = .ok (.iload 6, 2) := dk_21 6 (dk_at dksL_law_56 21 rfl rfl)
theorem dL_law_1478 : decode cL_law 1478 = .ok (.i2l, 1) := dk_133 (dk_at dksL_law_56 23 rfl rfl)
theorem dL_law_1479 : decode cL_law 1479 = .ok (.lcmp, 1) := dk_148 (dk_at dksL_law_57 0 rfl rfl)
theorem dL_law_1480 : decode cL_law 1480 = .ok (.ifCond .eq 5, 3) := dk_153 0 5 (dk_at dksL_law_57 1 rfl rfl)
theorem dL_law_1483 : decode cL_law 1483 = .ok (.iconst 0, 1) := dk_3 (dk_at dksL_law_57 4 rfl rfl)
theorem dL_law_1484 : decode cL_law 1484 = .ok (.ireturn, 1) := dk_172 (dk_at dksL_law_57 5 rfl rfl)
theorem dL_law_1485 : decode cL_law 1485 = .ok (.goto 722, 3) := dk_167 2 210 (dk_at dksL_law_57 6 rfl rfl)
theorem dL_law_1488 : decode cL_law 1488 = .ok (.aload_n 1, 1) := dk_43 (dk_at dksL_law_57 9 rfl rfl)
theorem dL_law_1489 : decode cL_law 1489 = .ok (.invokevirtual 190, 3) := dk_182 0 190 (dk_at dksL_law_57 10 rfl rfl)
theorem dL_law_1492 : decode cL_law 1492 = .ok (.aload_n 2, 1) := dk_44 (dk_at dksL_law_57 13 rfl rfl)
theorem dL_law_1493 : decode cL_law 1493 = .ok (.invokevirtual 193, 3) := dk_182 0 193 (dk_at dksL_law_57 14 rfl rfl)
theorem dL_law_1496 : decode cL_law 1496 = .ok (.if_icmp .eq 711, 3) := dk_159 2 199 (dk_at dksL_law_57 17 rfl rfl)
theorem dL_law_1499 : decode cL_law 1499 = .ok (.iconst 0, 1) := dk_3 (dk_at dksL_law_57 20 rfl rfl)
theorem dL_law_1500 : decode cL_law 1500 = .ok (.ireturn, 1) := dk_172 (dk_at dksL_law_57 21 rfl rfl)
theorem dL_law_1501 : decode cL_law 1501 = .ok (.aload_n 1, 1) := dk_43 (dk_at dksL_law_57 22 rfl rfl)
theorem dL_law_1502 : decode cL_law 1502 = .ok (.invokevirtual 194, 3) := dk_182 0 194 (dk_at dksL_law_58 0 rfl rfl)
theorem dL_law_1505 : decode cL_law 1505 = .ok (.aload_n 2, 1) := dk_44 (dk_at dksL_law_58 3 rfl rfl)
theorem dL_law_1506 : decode cL_law 1506 = .ok (.invokevirtual 197, 3) := dk_182 0 197 (dk_at dksL_law_58 4 rfl rfl)
theorem dL_law_1509 : decode cL_law 1509 = .ok (.if_icmp .eq 698, 3) := dk_159 2 186 (dk_at dksL_law_58 7 rfl rfl)
theorem dL_law_1512 : decode cL_law 1512 = .ok (.iconst 0, 1) := dk_3 (dk_at dksL_law_58 10 rfl rfl)
theorem dL_law_1513 : decode cL_law 1513 = .ok (.ireturn, 1) := dk_172 (dk_at dksL_law_58 11 rfl rfl)
theorem dL_law_1514 : decode cL_law 1514 = .ok (.aload_n 1, 1) := dk_43 (dk_at dksL_law_58 12 rfl rfl)
theorem dL_law_1515 : decode cL_law 1515 = .ok (.aload_n 0, 1) := dk_42 (dk_at dksL_law_58 13 rfl rfl)
theorem dL_law_1516 : decode cL_law 1516 = .ok (.iload 4, 2) := dk_21 4 (dk_at dksL_law_58 14 rfl rfl)
theorem dL_law_1518 : decode cL_law 1518 = .ok (.iconst 1, 1) := dk_4 (dk_at dksL_law_58 16 rfl rfl)
theorem dL_law_1519 : decode cL_law 1519 = .ok (.iadd, 1) := dk_96 (dk_at dksL_law_58 17 rfl rfl)
theorem dL_law_1520 : decode cL_law 1520 = .ok (.iaload, 1) := dk_46 (dk_at dksL_law_58 18 rfl rfl)
theorem dL_law_1521 : decode cL_law 1521 = .ok (.aload_n 0, 1) := dk_42 (dk_at dksL_law_58 19 rfl rfl)
theorem dL_law_1522 : decode cL_law 1522 = .ok (.iload 4, 2) := dk_21 4 (dk_at dksL_law_58 20 rfl rfl)
theorem dL_law_1524 : decode cL_law 1524 = .ok (.iconst 2, 1) := dk_5 (dk_at dksL_law_58 22 rfl rfl)
theorem dL_law_1525 : decode cL_law 1525 = .ok (.iadd, 1) := dk_96 (dk_at dksL_law_58 23 rfl rfl)
theorem dL_law_1526 : decode cL_law 1526 = .ok (.iaload, 1) := dk_46 (dk_at dksL_law_59 0 rfl rfl)
theorem dL_law_1527 : decode cL_law 1527 = .ok (.aload_n 3, 1) := dk_45 (dk_at dksL_law_59 1 rfl rfl)
theorem dL_law_1528 : decode cL_law 1528 = .ok (.invokestatic 198, 3) := dk_184 0 198 (dk_at dksL_law_59 2 rfl rfl)
theorem dL_law_1531 : decode cL_law 1531 = .ok (.istore 5, 2) := dk_54 5 (dk_at dksL_law_59 5 rfl rfl)
theorem dL_law_1533 : decode cL_law 1533 = .ok (.aload_n 2, 1) := dk_44 (dk_at dksL_law_59 7 rfl rfl)
theorem dL_law_1534 : decode cL_law 1534 = .ok (.aload_n 0, 1) := dk_42 (dk_at dksL_law_59 8 rfl rfl)
theorem dL_law_1535 : decode cL_law 1535 = .ok (.iload 4, 2) := dk_21 4 (dk_at dksL_law_59 9 rfl rfl)
theorem dL_law_1537 : decode cL_law 1537 = .ok (.iconst 1, 1) := dk_4 (dk_at dksL_law_59 11 rfl rfl)
theorem dL_law_1538 : decode cL_law 1538 = .ok (.iadd, 1) := dk_96 (dk_at dksL_law_59 12 rfl rfl)
theorem dL_law_1539 : decode cL_law 1539 = .ok (.iaload, 1) := dk_46 (dk_at dksL_law_59 13 rfl rfl)
theorem dL_law_1540 : decode cL_law 1540 = .ok (.aload_n 0, 1) := dk_42 (dk_at dksL_law_59 14 rfl rfl)
theorem dL_law_1541 : decode cL_law 1541 = .ok (.iload 4, 2) := dk_21 4 (dk_at dksL_law_59 15 rfl rfl)
theorem dL_law_1543 : decode cL_law 1543 = .ok (.iconst 2, 1) := dk_5 (dk_at dksL_law_59 17 rfl rfl)
theorem dL_law_1544 : decode cL_law 1544 = .ok (.iadd, 1) := dk_96 (dk_at dksL_law_59 18 rfl rfl)
theorem dL_law_1545 : decode cL_law 1545 = .ok (.iaload, 1) := dk_46 (dk_at dksL_law_59 19 rfl rfl)
theorem dL_law_1546 : decode cL_law 1546 = .ok (.invokevirtual 200, 3) := dk_182 0 200 (dk_at dksL_law_59 20 rfl rfl)
theorem dL_law_1549 : decode cL_law 1549 = .ok (.istore 6, 2) := dk_54 6 (dk_at dksL_law_60 0 rfl rfl)
theorem dL_law_1551 : decode cL_law 1551 = .ok (.aload_n 2, 1) := dk_44 (dk_at dksL_law_60 2 rfl rfl)
theorem dL_law_1552 : decode cL_law 1552 = .ok (.invokevirtual 116, 3) := dk_182 0 116 (dk_at dksL_law_60 3 rfl rfl)
theorem dL_law_1555 : decode cL_law 1555 = .ok (.iload 5, 2) := dk_21 5 (dk_at dksL_law_60 6 rfl rfl)
theorem dL_law_1557 : decode cL_law 1557 = .ok (.if_icmp .eq 5, 3) := dk_159 0 5 (dk_at dksL_law_60 8 rfl rfl)
theorem dL_law_1560 : decode cL_law 1560 = .ok (.iconst 0, 1) := dk_3 (dk_at dksL_law_60 11 rfl rfl)
theorem dL_law_1561 : decode cL_law 1561 = .ok (.ireturn, 1) := dk_172 (dk_at dksL_law_60 12 rfl rfl)
theorem dL_law_1562 : decode cL_law 1562 = .ok (.iload 5, 2) := dk_21 5 (dk_at dksL_law_60 13 rfl rfl)
theorem dL_law_1564 : decode cL_law 1564 = .ok (.ifCond .ne 15, 3) := dk_154 0 15 (dk_at dksL_law_60 15 rfl rfl)
theorem dL_law_1567 : decode cL_law 1567 = .ok (.aload_n 3, 1) := dk_45 (dk_at dksL_law_60 18 rfl rfl)
theorem dL_law_1568 : decode cL_law 1568 = .ok (.iconst 0, 1) := dk_3 (dk_at dksL_law_60 19 rfl rfl)
theorem dL_law_1569 : decode cL_law 1569 = .ok (.laload, 1) := dk_47 (dk_at dksL_law_60 20 rfl rfl)
theorem dL_law_1570 : decode cL_law 1570 = .ok (.iload 6, 2) := dk_21 6 (dk_at dksL_law_60 21 rfl rfl)
theorem dL_law_1572 : decode cL_law 1572 = .ok (.i2l, 1) := dk_133 (dk_at dksL_law_60 23 rfl rfl)
theorem dL_law_1573 : decode cL_law 1573 = .ok (.lcmp, 1) := dk_148 (dk_at dksL_law_61 0 rfl rfl)
theorem dL_law_1574 : decode cL_law 1574 = .ok (.ifCond .eq 5, 3) := dk_153 0 5 (dk_at dksL_law_61 1 rfl rfl)
theorem dL_law_1577 : decode cL_law 1577 = .ok (.iconst 0, 1) := dk_3 (dk_at dksL_law_61 4 rfl rfl)
theorem dL_law_1578 : decode cL_law 1578 = .ok (.ireturn, 1) := dk_172 (dk_at dksL_law_61 5 rfl rfl)
theorem dL_law_1579 : decode cL_law 1579 = .ok (.goto 628, 3) := dk_167 2 116 (dk_at dksL_law_61 6 rfl rfl)
theorem dL_law_1582 : decode cL_law 1582 = .ok (.aload_n 1, 1) := dk_43 (dk_at dksL_law_61 9 rfl rfl)
theorem dL_law_1583 : decode cL_law 1583 = .ok (.invokevirtual 201, 3) := dk_182 0 201 (dk_at dksL_law_61 10 rfl rfl)
theorem dL_law_1586 : decode cL_law 1586 = .ok (.aload_n 2, 1) := dk_44 (dk_at dksL_law_61 13 rfl rfl)
theorem dL_law_1587 : decode cL_law 1587 = .ok (.invokevirtual 204, 3) := dk_182 0 204 (dk_at dksL_law_61 14 rfl rfl)
theorem dL_law_1590 : decode cL_law 1590 = .ok (.if_icmp .eq 617, 3) := dk_159 2 105 (dk_at dksL_law_61 17 rfl rfl)
theorem dL_law_1593 : decode cL_law 1593 = .ok (.iconst 0, 1) := dk_3 (dk_at dksL_law_61 20 rfl rfl)
theorem dL_law_1594 : decode cL_law 1594 = .ok (.ireturn, 1) := dk_172 (dk_at dksL_law_61 21 rfl rfl)
theorem dL_law_1595 : decode cL_law 1595 = .ok (.aload_n 1, 1) := dk_43 (dk_at dksL_law_61 22 rfl rfl)
theorem dL_law_1596 : decode cL_law 1596 = .ok (.invokevirtual 205, 3) := dk_182 0 205 (dk_at dksL_law_62 0 rfl rfl)
theorem dL_law_1599 : decode cL_law 1599 = .ok (.aload_n 2, 1) := dk_44 (dk_at dksL_law_62 3 rfl rfl)
theorem dL_law_1600 : decode cL_law 1600 = .ok (.invokevirtual 208, 3) := dk_182 0 208 (dk_at dksL_law_62 4 rfl rfl)
theorem dL_law_1603 : decode cL_law 1603 = .ok (.if_icmp .eq 604, 3) := dk_159 2 92 (dk_at dksL_law_62 7 rfl rfl)
theorem dL_law_1606 : decode cL_law 1606 = .ok (.iconst 0, 1) := dk_3 (dk_at dksL_law_62 10 rfl rfl)
theorem dL_law_1607 : decode cL_law 1607 = .ok (.ireturn, 1) := dk_172 (dk_at dksL_law_62 11 rfl rfl)
theorem dL_law_1608 : decode cL_law 1608 = .ok (.aload_n 1, 1) := dk_43 (dk_at dksL_law_62 12 rfl rfl)
theorem dL_law_1609 : decode cL_law 1609 = .ok (.invokevirtual 209, 3) := dk_182 0 209 (dk_at dksL_law_62 13 rfl rfl)
theorem dL_law_1612 : decode cL_law 1612 = .ok (.f2d, 1) := dk_141 (dk_at dksL_law_62 16 rfl rfl)
theorem dL_law_1613 : decode cL_law 1613 = .ok (.dstore 5, 2) := dk_57 5 (dk_at dksL_law_62 17 rfl rfl)
theorem dL_law_1615 : decode cL_law 1615 = .ok (.aload_n 2, 1) := dk_44 (dk_at dksL_law_62 19 rfl rfl)
theorem dL_law_1616 : decode cL_law 1616 = .ok (.invokevirtual 213, 3) := dk_182 0 213 (dk_at dksL_law_62 20 rfl rfl)
theorem dL_law_1619 : decode cL_law 1619 = .ok (.f2d, 1) := dk_141 (dk_at dksL_law_62 23 rfl rfl)
theorem dL_law_1620 : decode cL_law 1620 = .ok (.dstore 7, 2) := dk_57 7 (dk_at dksL_law_63 0 rfl rfl)
theorem dL_law_1622 : decode cL_law 1622 = .ok (.dload 5, 2) := dk_24 5 (dk_at dksL_law_63 2 rfl rfl)
theorem dL_law_1624 : decode cL_law 1624 = .ok (.dload 7, 2) := dk_24 7 (dk_at dksL_law_63 4 rfl rfl)
theorem dL_law_1626 : decode cL_law 1626 = .ok (.dcmp .l, 1) := dk_151 (dk_at dksL_law_63 6 rfl rfl)
theorem dL_law_1627 : decode cL_law 1627 = .ok (.ifCond .eq 21, 3) := dk_153 0 21 (dk_at dksL_law_63 7 rfl rfl)
theorem dL_law_1630 : decode cL_law 1630 = .ok (.dload 5, 2) := dk_24 5 (dk_at dksL_law_63 10 rfl rfl)
theorem dL_law_1632 : decode cL_law 1632 = .ok (.dload 5, 2) := dk_24 5 (dk_at dksL_law_63 12 rfl rfl)
theorem dL_law_1634 : decode cL_law 1634 = .ok (.dcmp .l, 1) := dk_151 (dk_at dksL_law_63 14 rfl rfl)
theorem dL_law_1635 : decode cL_law 1635 = .ok (.ifCond .eq 11, 3) := dk_153 0 11 (dk_at dksL_law_63 15 rfl rfl)
theorem dL_law_1638 : decode cL_law 1638 = .ok (.dload 7, 2) := dk_24 7 (dk_at dksL_law_63 18 rfl rfl)
theorem dL_law_1640 : decode cL_law 1640 = .ok (.dload 7, 2) := dk_24 7 (dk_at dksL_law_63 20 rfl rfl)
theorem dL_law_1642 : decode cL_law 1642 = .ok (.dcmp .l, 1) := dk_151 (dk_at dksL_law_63 22 rfl rfl)
theorem dL_law_1643 : decode cL_law 1643 = .ok (.ifCond .ne 5, 3) := dk_154 0 5 (dk_at dksL_law_64 0 rfl rfl)
theorem dL_law_1646 : decode cL_law 1646 = .ok (.iconst 0, 1) := dk_3 (dk_at dksL_law_64 3 rfl rfl)
theorem dL_law_1647 : decode cL_law 1647 = .ok (.ireturn, 1) := dk_172 (dk_at dksL_law_64 4 rfl rfl)
theorem dL_law_1648 : decode cL_law 1648 = .ok (.goto 559, 3) := dk_167 2 47 (dk_at dksL_law_64 5 rfl rfl)
theorem dL_law_1651 : decode cL_law 1651 = .ok (.aload_n 1, 1) := dk_43 (dk_at dksL_law_64 8 rfl rfl)
theorem dL_law_1652 : decode cL_law 1652 = .ok (.aload_n 0, 1) := dk_42 (dk_at dksL_law_64 9 rfl rfl)
theorem dL_law_1653 : decode cL_law 1653 = .ok (.iload 4, 2) := dk_21 4 (dk_at dksL_law_64 10 rfl rfl)
theorem dL_law_1655 : decode cL_law 1655 = .ok (.iconst 1, 1) := dk_4 (dk_at dksL_law_64 12 rfl rfl)
theorem dL_law_1656 : decode cL_law 1656 = .ok (.iadd, 1) := dk_96 (dk_at dksL_law_64 13 rfl rfl)
theorem dL_law_1657 : decode cL_law 1657 = .ok (.iaload, 1) := dk_46 (dk_at dksL_law_64 14 rfl rfl)
theorem dL_law_1658 : decode cL_law 1658 = .ok (.aload_n 3, 1) := dk_45 (dk_at dksL_law_64 15 rfl rfl)
theorem dL_law_1659 : decode cL_law 1659 = .ok (.invokestatic 214, 3) := dk_184 0 214 (dk_at dksL_law_64 16 rfl rfl)
theorem dL_law_1662 : decode cL_law 1662 = .ok (.istore 5, 2) := dk_54 5 (dk_at dksL_law_64 19 rfl rfl)
theorem dL_law_1664 : decode cL_law 1664 = .ok (.aload_n 2, 1) := dk_44 (dk_at dksL_law_64 21 rfl rfl)
theorem dL_law_1665 : decode cL_law 1665 = .ok (.aload_n 0, 1) := dk_42 (dk_at dksL_law_64 22 rfl rfl)
theorem dL_law_1666 : decode cL_law 1666 = .ok (.iload 4, 2) := dk_21 4 (dk_at dksL_law_65 0 rfl rfl)
theorem dL_law_1668 : decode cL_law 1668 = .ok (.iconst 1, 1) := dk_4 (dk_at dksL_law_65 2 rfl rfl)
theorem dL_law_1669 : decode cL_law 1669 = .ok (.iadd, 1) := dk_96 (dk_at dksL_law_65 3 rfl rfl)
theorem dL_law_1670 : decode cL_law 1670 = .ok (.iaload, 1) := dk_46 (dk_at dksL_law_65 4 rfl rfl)
theorem dL_law_1671 : decode cL_law 1671 = .ok (.invokevirtual 216, 3) := dk_182 0 216 (dk_at dksL_law_65 5 rfl rfl)
theorem dL_law_1674 : decode cL_law 1674 = .ok (.istore 6, 2) := dk_54 6 (dk_at dksL_law_65 8 rfl rfl)
theorem dL_law_1676 : decode cL_law 1676 = .ok (.aload_n 2, 1) := dk_44 (dk_at dksL_law_65 10 rfl rfl)
theorem dL_law_1677 : decode cL_law 1677 = .ok (.invokevirtual 116, 3) := dk_182 0 116 (dk_at dksL_law_65 11 rfl rfl)
theorem dL_law_1680 : decode cL_law 1680 = .ok (.iload 5, 2) := dk_21 5 (dk_at dksL_law_65 14 rfl rfl)
theorem dL_law_1682 : decode cL_law 1682 = .ok (.if_icmp .eq 5, 3) := dk_159 0 5 (dk_at dksL_law_65 16 rfl rfl)
theorem dL_law_1685 : decode cL_law 1685 = .ok (.iconst 0, 1) := dk_3 (dk_at dksL_law_65 19 rfl rfl)
theorem dL_law_1686 : decode cL_law 1686 = .ok (.ireturn, 1) := dk_172 (dk_at dksL_law_65 20 rfl rfl)
theorem dL_law_1687 : decode cL_law 1687 = .ok (.iload 5, 2) := dk_21 5 (dk_at dksL_law_65 21 rfl rfl)
theorem dL_law_1689 : decode cL_law 1689 = .ok (.ifCond .ne 15, 3) := dk_154 0 15 (dk_at dksL_law_66 0 rfl rfl)
theorem dL_law_1692 : decode cL_law 1692 = .ok (.aload_n 3, 1) := dk_45 (dk_at dksL_law_66 3 rfl rfl)
theorem dL_law_1693 : decode cL_law 1693 = .ok (.iconst 0, 1) := dk_3 (dk_at dksL_law_66 4 rfl rfl)
theorem dL_law_1694 : decode cL_law 1694 = .ok (.laload, 1) := dk_47 (dk_at dksL_law_66 5 rfl rfl)
theorem dL_law_1695 : decode cL_law 1695 = .ok (.iload 6, 2) := dk_21 6 (dk_at dksL_law_66 6 rfl rfl)
theorem dL_law_1697 : decode cL_law 1697 = .ok (.i2l, 1) := dk_133 (dk_at dksL_law_66 8 rfl rfl)
theorem dL_law_1698 : decode cL_law 1698 = .ok (.lcmp, 1) := dk_148 (dk_at dksL_law_66 9 rfl rfl)
theorem dL_law_1699 : decode cL_law 1699 = .ok (.ifCond .eq 5, 3) := dk_153 0 5 (dk_at dksL_law_66 10 rfl rfl)
theorem dL_law_1702 : decode cL_law 1702 = .ok (.iconst 0, 1) := dk_3 (dk_at dksL_law_66 13 rfl rfl)
theorem dL_law_1703 : decode cL_law 1703 = .ok (.ireturn, 1) := dk_172 (dk_at dksL_law_66 14 rfl rfl)
theorem dL_law_1704 : decode cL_law 1704 = .ok (.goto 503, 3) := dk_167 1 247 (dk_at dksL_law_66 15 rfl rfl)
theorem dL_law_1707 : decode cL_law 1707 = .ok (.aload_n 1, 1) := dk_43 (dk_at dksL_law_66 18 rfl rfl)
theorem dL_law_1708 : decode cL_law 1708 = .ok (.aload_n 0, 1) := dk_42 (dk_at dksL_law_66 19 rfl rfl)
theorem dL_law_1709 : decode cL_law 1709 = .ok (.iload 4, 2) := dk_21 4 (dk_at dksL_law_66 20 rfl rfl)
theorem dL_law_1711 : decode cL_law 1711 = .ok (.iconst 1, 1) := dk_4 (dk_at dksL_law_66 22 rfl rfl)
theorem dL_law_1712 : decode cL_law 1712 = .ok (.iadd, 1) := dk_96 (dk_at dksL_law_66 23 rfl rfl)
theorem dL_law_1713 : decode cL_law 1713 = .ok (.iaload, 1) := dk_46 (dk_at dksL_law_67 0 rfl rfl)
theorem dL_law_1714 : decode cL_law 1714 = .ok (.aload_n 3, 1) := dk_45 (dk_at dksL_law_67 1 rfl rfl)
theorem dL_law_1715 : decode cL_law 1715 = .ok (.invokestatic 217, 3) := dk_184 0 217 (dk_at dksL_law_67 2 rfl rfl)
theorem dL_law_1718 : decode cL_law 1718 = .ok (.istore 5, 2) := dk_54 5 (dk_at dksL_law_67 5 rfl rfl)
theorem dL_law_1720 : decode cL_law 1720 = .ok (.aload_n 2, 1) := dk_44 (dk_at dksL_law_67 7 rfl rfl)
theorem dL_law_1721 : decode cL_law 1721 = .ok (.aload_n 0, 1) := dk_42 (dk_at dksL_law_67 8 rfl rfl)
theorem dL_law_1722 : decode cL_law 1722 = .ok (.iload 4, 2) := dk_21 4 (dk_at dksL_law_67 9 rfl rfl)
theorem dL_law_1724 : decode cL_law 1724 = .ok (.iconst 1, 1) := dk_4 (dk_at dksL_law_67 11 rfl rfl)
theorem dL_law_1725 : decode cL_law 1725 = .ok (.iadd, 1) := dk_96 (dk_at dksL_law_67 12 rfl rfl)
theorem dL_law_1726 : decode cL_law 1726 = .ok (.iaload, 1) := dk_46 (dk_at dksL_law_67 13 rfl rfl)
theorem dL_law_1727 : decode cL_law 1727 = .ok (.invokevirtual 219, 3) := dk_182 0 219 (dk_at dksL_law_67 14 rfl rfl)
theorem dL_law_1730 : decode cL_law 1730 = .ok (.istore 6, 2) := dk_54 6 (dk_at dksL_law_67 17 rfl rfl)
theorem dL_law_1732 : decode cL_law 1732 = .ok (.aload_n 2, 1) := dk_44 (dk_at dksL_law_67 19 rfl rfl)
theorem dL_law_1733 : decode cL_law 1733 = .ok (.invokevirtual 116, 3) := dk_182 0 116 (dk_at dksL_law_67 20 rfl rfl)
theorem dL_law_1736 : decode cL_law 1736 = .ok (.iload 5, 2) := dk_21 5 (dk_at dksL_law_68 0 rfl rfl)
theorem dL_law_1738 : decode cL_law 1738 = .ok (.if_icmp .eq 5, 3) := dk_159 0 5 (dk_at dksL_law_68 2 rfl rfl)
theorem dL_law_1741 : decode cL_law 1741 = .ok (.iconst 0, 1) := dk_3 (dk_at dksL_law_68 5 rfl rfl)
theorem dL_law_1742 : decode cL_law 1742 = .ok (.ireturn, 1) := dk_172 (dk_at dksL_law_68 6 rfl rfl)
theorem dL_law_1743 : decode cL_law 1743 = .ok (.iload 5, 2) := dk_21 5 (dk_at dksL_law_68 7 rfl rfl)
theorem dL_law_1745 : decode cL_law 1745 = .ok (.ifCond .ne 15, 3) := dk_154 0 15 (dk_at dksL_law_68 9 rfl rfl)
theorem dL_law_1748 : decode cL_law 1748 = .ok (.aload_n 3, 1) := dk_45 (dk_at dksL_law_68 12 rfl rfl)
theorem dL_law_1749 : decode cL_law 1749 = .ok (.iconst 0, 1) := dk_3 (dk_at dksL_law_68 13 rfl rfl)
theorem dL_law_1750 : decode cL_law 1750 = .ok (.laload, 1) := dk_47 (dk_at dksL_law_68 14 rfl rfl)
theorem dL_law_1751 : decode cL_law 1751 = .ok (.iload 6, 2) := dk_21 6 (dk_at dksL_law_68 15 rfl rfl)
theorem dL_law_1753 : decode cL_law 1753 = .ok (.i2l, 1) := dk_133 (dk_at dksL_law_68 17 rfl rfl)
theorem dL_law_1754 : decode cL_law 1754 = .ok (.lcmp, 1) := dk_148 (dk_at dksL_law_68 18 rfl rfl)
theorem dL_law_1755 : decode cL_law 1755 = .ok (.ifCond .eq 5, 3) := dk_153 0 5 (dk_at dksL_law_68 19 rfl rfl)
theorem dL_law_1758 : decode cL_law 1758 = .ok (.iconst 0, 1) := dk_3 (dk_at dksL_law_68 22 rfl rfl)
theorem dL_law_1759 : decode cL_law 1759 = .ok (.ireturn, 1) := dk_172 (dk_at dksL_law_68 23 rfl rfl)
theorem dL_law_1760 : decode cL_law 1760 = .ok (.goto 447, 3) := dk_167 1 191 (dk_at dksL_law_69 0 rfl rfl)
theorem dL_law_1763 : decode cL_law 1763 = .ok (.aload_n 1, 1) := dk_43 (dk_at dksL_law_69 3 rfl rfl)
theorem dL_law_1764 : decode cL_law 1764 = .ok (.invokevirtual 220, 3) := dk_182 0 220 (dk_at dksL_law_69 4 rfl rfl)
theorem dL_law_1767 : decode cL_law 1767 = .ok (.aload_n 2, 1) := dk_44 (dk_at dksL_law_69 7 rfl rfl)
theorem dL_law_1768 : decode cL_law 1768 = .ok (.invokevirtual 223, 3) := dk_182 0 223 (dk_at dksL_law_69 8 rfl rfl)
theorem dL_law_1771 : decode cL_law 1771 = .ok (.if_icmp .eq 436, 3) := dk_159 1 180 (dk_at dksL_law_69 11 rfl rfl)
theorem dL_law_1774 : decode cL_law 1774 = .ok (.iconst 0, 1) := dk_3 (dk_at dksL_law_69 14 rfl rfl)
theorem dL_law_1775 : decode cL_law 1775 = .ok (.ireturn, 1) := dk_172 (dk_at dksL_law_69 15 rfl rfl)
theorem dL_law_1776 : decode cL_law 1776 = .ok (.aload_n 1, 1) := dk_43 (dk_at dksL_law_69 16 rfl rfl)
theorem dL_law_1777 : decode cL_law 1777 = .ok (.invokevirtual 224, 3) := dk_182 0 224 (dk_at dksL_law_69 17 rfl rfl)
theorem dL_law_1780 : decode cL_law 1780 = .ok (.aload_n 2, 1) := dk_44 (dk_at dksL_law_69 20 rfl rfl)
theorem dL_law_1781 : decode cL_law 1781 = .ok (.invokevirtual 228, 3) := dk_182 0 228 (dk_at dksL_law_69 21 rfl rfl)
theorem dL_law_1784 : decode cL_law 1784 = .ok (.if_icmp .eq 423, 3) := dk_159 1 167 (dk_at dksL_law_70 0 rfl rfl)
theorem dL_law_1787 : decode cL_law 1787 = .ok (.iconst 0, 1) := dk_3 (dk_at dksL_law_70 3 rfl rfl)
theorem dL_law_1788 : decode cL_law 1788 = .ok (.ireturn, 1) := dk_172 (dk_at dksL_law_70 4 rfl rfl)
theorem dL_law_1789 : decode cL_law 1789 = .ok (.aload_n 1, 1) := dk_43 (dk_at dksL_law_70 5 rfl rfl)
theorem dL_law_1790 : decode cL_law 1790 = .ok (.invokevirtual 229, 3) := dk_182 0 229 (dk_at dksL_law_70 6 rfl rfl)
theorem dL_law_1793 : decode cL_law 1793 = .ok (.aload_n 2, 1) := dk_44 (dk_at dksL_law_70 9 rfl rfl)
theorem dL_law_1794 : decode cL_law 1794 = .ok (.invokevirtual 232, 3) := dk_182 0 232 (dk_at dksL_law_70 10 rfl rfl)
theorem dL_law_1797 : decode cL_law 1797 = .ok (.if_icmp .eq 410, 3) := dk_159 1 154 (dk_at dksL_law_70 13 rfl rfl)
theorem dL_law_1800 : decode cL_law 1800 = .ok (.iconst 0, 1) := dk_3 (dk_at dksL_law_70 16 rfl rfl)
theorem dL_law_1801 : decode cL_law 1801 = .ok (.ireturn, 1) := dk_172 (dk_at dksL_law_70 17 rfl rfl)
theorem dL_law_1802 : decode cL_law 1802 = .ok (.aload_n 1, 1) := dk_43 (dk_at dksL_law_70 18 rfl rfl)
theorem dL_law_1803 : decode cL_law 1803 = .ok (.aload_n 0, 1) := dk_42 (dk_at dksL_law_70 19 rfl rfl)
theorem dL_law_1804 : decode cL_law 1804 = .ok (.iload 4, 2) := dk_21 4 (dk_at dksL_law_70 20 rfl rfl)
theorem dL_law_1806 : decode cL_law 1806 = .ok (.iconst 1, 1) := dk_4 (dk_at dksL_law_70 22 rfl rfl)
theorem dL_law_1807 : decode cL_law 1807 = .ok (.iadd, 1) := dk_96 (dk_at dksL_law_70 23 rfl rfl)
theorem dL_law_1808 : decode cL_law 1808 = .ok (.iaload, 1) := dk_46 (dk_at dksL_law_71 0 rfl rfl)
theorem dL_law_1809 : decode cL_law 1809 = .ok (.aload_n 3, 1) := dk_45 (dk_at dksL_law_71 1 rfl rfl)
theorem dL_law_1810 : decode cL_law 1810 = .ok (.invokestatic 233, 3) := dk_184 0 233 (dk_at dksL_law_71 2 rfl rfl)
theorem dL_law_1813 : decode cL_law 1813 = .ok (.istore 5, 2) := dk_54 5 (dk_at dksL_law_71 5 rfl rfl)
theorem dL_law_1815 : decode cL_law 1815 = .ok (.aload_n 2, 1) := dk_44 (dk_at dksL_law_71 7 rfl rfl)
theorem dL_law_1816 : decode cL_law 1816 = .ok (.aload_n 0, 1) := dk_42 (dk_at dksL_law_71 8 rfl rfl)
theorem dL_law_1817 : decode cL_law 1817 = .ok (.iload 4, 2) := dk_21 4 (dk_at dksL_law_71 9 rfl rfl)
theorem dL_law_1819 : decode cL_law 1819 = .ok (.iconst 1, 1) := dk_4 (dk_at dksL_law_71 11 rfl rfl)
theorem dL_law_1820 : decode cL_law 1820 = .ok (.iadd, 1) := dk_96 (dk_at dksL_law_71 12 rfl rfl)
theorem dL_law_1821 : decode cL_law 1821 = .ok (.iaload, 1) := dk_46 (dk_at dksL_law_71 13 rfl rfl)
theorem dL_law_1822 : decode cL_law 1822 = .ok (.invokevirtual 235, 3) := dk_182 0 235 (dk_at dksL_law_71 14 rfl rfl)
theorem dL_law_1825 : decode cL_law 1825 = .ok (.istore 6, 2) := dk_54 6 (dk_at dksL_law_71 17 rfl rfl)
theorem dL_law_1827 : decode cL_law 1827 = .ok (.aload_n 2, 1) := dk_44 (dk_at dksL_law_71 19 rfl rfl)
theorem dL_law_1828 : decode cL_law 1828 = .ok (.invokevirtual 116, 3) := dk_182 0 116 (dk_at dksL_law_71 20 rfl rfl)
theorem dL_law_1831 : decode cL_law 1831 = .ok (.iload 5, 2) := dk_21 5 (dk_at dksL_law_72 0 rfl rfl)
theorem dL_law_1833 : decode cL_law 1833 = .ok (.if_icmp .eq 5, 3) := dk_159 0 5 (dk_at dksL_law_72 2 rfl rfl)
theorem dL_law_1836 : decode cL_law 1836 = .ok (.iconst 0, 1) := dk_3 (dk_at dksL_law_72 5 rfl rfl)
theorem dL_law_1837 : decode cL_law 1837 = .ok (.ireturn, 1) := dk_172 (dk_at dksL_law_72 6 rfl rfl)
theorem dL_law_1838 : decode cL_law 1838 = .ok (.iload 5, 2) := dk_21 5 (dk_at dksL_law_72 7 rfl rfl)
theorem dL_law_1840 : decode cL_law 1840 = .ok (.ifCond .ne 15, 3) := dk_154 0 15 (dk_at dksL_law_72 9 rfl rfl)
theorem dL_law_1843 : decode cL_law 1843 = .ok (.aload_n 3, 1) := dk_45 (dk_at dksL_law_72 12 rfl rfl)
theorem dL_law_1844 : decode cL_law 1844 = .ok (.iconst 0, 1) := dk_3 (dk_at dksL_law_72 13 rfl rfl)
theorem dL_law_1845 : decode cL_law 1845 = .ok (.laload, 1) := dk_47 (dk_at dksL_law_72 14 rfl rfl)
theorem dL_law_1846 : decode cL_law 1846 = .ok (.iload 6, 2) := dk_21 6 (dk_at dksL_law_72 15 rfl rfl)
theorem dL_law_1848 : decode cL_law 1848 = .ok (.i2l, 1) := dk_133 (dk_at dksL_law_72 17 rfl rfl)
theorem dL_law_1849 : decode cL_law 1849 = .ok (.lcmp, 1) := dk_148 (dk_at dksL_law_72 18 rfl rfl)
theorem dL_law_1850 : decode cL_law 1850 = .ok (.ifCond .eq 5, 3) := dk_153 0 5 (dk_at dksL_law_72 19 rfl rfl)
theorem dL_law_1853 : decode cL_law 1853 = .ok (.iconst 0, 1) := dk_3 (dk_at dksL_law_72 22 rfl rfl)
theorem dL_law_1854 : decode cL_law 1854 = .ok (.ireturn, 1) := dk_172 (dk_at dksL_law_72 23 rfl rfl)
theorem dL_law_1855 : decode cL_law 1855 = .ok (.goto 352, 3) := dk_167 1 96 (dk_at dksL_law_73 0 rfl rfl)
theorem dL_law_1858 : decode cL_law 1858 = .ok (.aload_n 1, 1) := dk_43 (dk_at dksL_law_73 3 rfl rfl)
theorem dL_law_1859 : decode cL_law 1859 = .ok (.aload_n 0, 1) := dk_42 (dk_at dksL_law_73 4 rfl rfl)
theorem dL_law_1860 : decode cL_law 1860 = .ok (.iload 4, 2) := dk_21 4 (dk_at dksL_law_73 5 rfl rfl)
theorem dL_law_1862 : decode cL_law 1862 = .ok (.iconst 1, 1) := dk_4 (dk_at dksL_law_73 7 rfl rfl)
theorem dL_law_1863 : decode cL_law 1863 = .ok (.iadd, 1) := dk_96 (dk_at dksL_law_73 8 rfl rfl)
theorem dL_law_1864 : decode cL_law 1864 = .ok (.iaload, 1) := dk_46 (dk_at dksL_law_73 9 rfl rfl)
theorem dL_law_1865 : decode cL_law 1865 = .ok (.aload_n 3, 1) := dk_45 (dk_at dksL_law_73 10 rfl rfl)
theorem dL_law_1866 : decode cL_law 1866 = .ok (.invokestatic 236, 3) := dk_184 0 236 (dk_at dksL_law_73 11 rfl rfl)
theorem dL_law_1869 : decode cL_law 1869 = .ok (.istore 5, 2) := dk_54 5 (dk_at dksL_law_73 14 rfl rfl)
theorem dL_law_1871 : decode cL_law 1871 = .ok (.aload_n 2, 1) := dk_44 (dk_at dksL_law_73 16 rfl rfl)
theorem dL_law_1872 : decode cL_law 1872 = .ok (.aload_n 0, 1) := dk_42 (dk_at dksL_law_73 17 rfl rfl)
theorem dL_law_1873 : decode cL_law 1873 = .ok (.iload 4, 2) := dk_21 4 (dk_at dksL_law_73 18 rfl rfl)
theorem dL_law_1875 : decode cL_law 1875 = .ok (.iconst 1, 1) := dk_4 (dk_at dksL_law_73 20 rfl rfl)
theorem dL_law_1876 : decode cL_law 1876 = .ok (.iadd, 1) := dk_96 (dk_at dksL_law_73 21 rfl rfl)
theorem dL_law_1877 : decode cL_law 1877 = .ok (.iaload, 1) := dk_46 (dk_at dksL_law_73 22 rfl rfl)
theorem dL_law_1878 : decode cL_law 1878 = .ok (.invokevirtual 238, 3) := dk_182 0 238 (dk_at dksL_law_74 0 rfl rfl)
theorem dL_law_1881 : decode cL_law 1881 = .ok (.istore 6, 2) := dk_54 6 (dk_at dksL_law_74 3 rfl rfl)
theorem dL_law_1883 : decode cL_law 1883 = .ok (.aload_n 2, 1) := dk_44 (dk_at dksL_law_74 5 rfl rfl)
theorem dL_law_1884 : decode cL_law 1884 = .ok (.invokevirtual 116, 3) := dk_182 0 116 (dk_at dksL_law_74 6 rfl rfl)
theorem dL_law_1887 : decode cL_law 1887 = .ok (.iload 5, 2) := dk_21 5 (dk_at dksL_law_74 9 rfl rfl)
theorem dL_law_1889 : decode cL_law 1889 = .ok (.if_icmp .eq 5, 3) := dk_159 0 5 (dk_at dksL_law_74 11 rfl rfl)
theorem dL_law_1892 : decode cL_law 1892 = .ok (.iconst 0, 1) := dk_3 (dk_at dksL_law_74 14 rfl rfl)
theorem dL_law_1893 : decode cL_law 1893 = .ok (.ireturn, 1) := dk_172 (dk_at dksL_law_74 15 rfl rfl)
theorem dL_law_1894 : decode cL_law 1894 = .ok (.iload 5, 2) := dk_21 5 (dk_at dksL_law_74 16 rfl rfl)
theorem dL_law_1896 : decode cL_law 1896 = .ok (.ifCond .ne 15, 3) := dk_154 0 15 (dk_at dksL_law_74 18 rfl rfl)
theorem dL_law_1899 : decode cL_law 1899 = .ok (.aload_n 3, 1) := dk_45 (dk_at dksL_law_74 21 rfl rfl)
theorem dL_law_1900 : decode cL_law 1900 = .ok (.iconst 0, 1) := dk_3 (dk_at dksL_law_74 22 rfl rfl)
theorem dL_law_1901 : decode cL_law 1901 = .ok (.laload, 1) := dk_47 (dk_at dksL_law_74 23 rfl rfl)
theorem dL_law_1902 : decode cL_law 1902 = .ok (.iload 6, 2) := dk_21 6 (dk_at dksL_law_75 0 rfl rfl)
theorem dL_law_1904 : decode cL_law 1904 = .ok (.i2l, 1) := dk_133 (dk_at dksL_law_75 2 rfl rfl)
theorem dL_law_1905 : decode cL_law 1905 = .ok (.lcmp, 1) := dk_148 (dk_at dksL_law_75 3 rfl rfl)
theorem dL_law_1906 : decode cL_law 1906 = .ok (.ifCond .eq 5, 3) := dk_153 0 5 (dk_at dksL_law_75 4 rfl rfl)
theorem dL_law_1909 : decode cL_law 1909 = .ok (.iconst 0, 1) := dk_3 (dk_at dksL_law_75 7 rfl rfl)
theorem dL_law_1910 : decode cL_law 1910 = .ok (.ireturn, 1) := dk_172 (dk_at dksL_law_75 8 rfl rfl)
theorem dL_law_1911 : decode cL_law 1911 = .ok (.goto 296, 3) := dk_167 1 40 (dk_at dksL_law_75 9 rfl rfl)
theorem dL_law_1914 : decode cL_law 1914 = .ok (.aload_n 1, 1) := dk_43 (dk_at dksL_law_75 12 rfl rfl)
theorem dL_law_1915 : decode cL_law 1915 = .ok (.aload_n 0, 1) := dk_42 (dk_at dksL_law_75 13 rfl rfl)
theorem dL_law_1916 : decode cL_law 1916 = .ok (.iload 4, 2) := dk_21 4 (dk_at dksL_law_75 14 rfl rfl)
theorem dL_law_1918 : decode cL_law 1918 = .ok (.iconst 1, 1) := dk_4 (dk_at dksL_law_75 16 rfl rfl)
theorem dL_law_1919 : decode cL_law 1919 = .ok (.iadd, 1) := dk_96 (dk_at dksL_law_75 17 rfl rfl)
theorem dL_law_1920 : decode cL_law 1920 = .ok (.iaload, 1) := dk_46 (dk_at dksL_law_75 18 rfl rfl)
theorem dL_law_1921 : decode cL_law 1921 = .ok (.aload_n 0, 1) := dk_42 (dk_at dksL_law_75 19 rfl rfl)
theorem dL_law_1922 : decode cL_law 1922 = .ok (.iload 4, 2) := dk_21 4 (dk_at dksL_law_75 20 rfl rfl)
theorem dL_law_1924 : decode cL_law 1924 = .ok (.iconst 2, 1) := dk_5 (dk_at dksL_law_75 22 rfl rfl)
theorem dL_law_1925 : decode cL_law 1925 = .ok (.iadd, 1) := dk_96 (dk_at dksL_law_75 23 rfl rfl)
theorem dL_law_1926 : decode cL_law 1926 = .ok (.iaload, 1) := dk_46 (dk_at dksL_law_76 0 rfl rfl)
theorem dL_law_1927 : decode cL_law 1927 = .ok (.aload_n 3, 1) := dk_45 (dk_at dksL_law_76 1 rfl rfl)
theorem dL_law_1928 : decode cL_law 1928 = .ok (.invokestatic 239, 3) := dk_184 0 239 (dk_at dksL_law_76 2 rfl rfl)
theorem dL_law_1931 : decode cL_law 1931 = .ok (.istore 5, 2) := dk_54 5 (dk_at dksL_law_76 5 rfl rfl)
theorem dL_law_1933 : decode cL_law 1933 = .ok (.aload_n 2, 1) := dk_44 (dk_at dksL_law_76 7 rfl rfl)
theorem dL_law_1934 : decode cL_law 1934 = .ok (.aload_n 0, 1) := dk_42 (dk_at dksL_law_76 8 rfl rfl)
theorem dL_law_1935 : decode cL_law 1935 = .ok (.iload 4, 2) := dk_21 4 (dk_at dksL_law_76 9 rfl rfl)
theorem dL_law_1937 : decode cL_law 1937 = .ok (.iconst 1, 1) := dk_4 (dk_at dksL_law_76 11 rfl rfl)
theorem dL_law_1938 : decode cL_law 1938 = .ok (.iadd, 1) := dk_96 (dk_at dksL_law_76 12 rfl rfl)
theorem dL_law_1939 : decode cL_law 1939 = .ok (.iaload, 1) := dk_46 (dk_at dksL_law_76 13 rfl rfl)
theorem dL_law_1940 : decode cL_law 1940 = .ok (.aload_n 0, 1) := dk_42 (dk_at dksL_law_76 14 rfl rfl)
theorem dL_law_1941 : decode cL_law 1941 = .ok (.iload 4, 2) := dk_21 4 (dk_at dksL_law_76 15 rfl rfl)
theorem dL_law_1943 : decode cL_law 1943 = .ok (.iconst 2, 1) := dk_5 (dk_at dksL_law_76 17 rfl rfl)
theorem dL_law_1944 : decode cL_law 1944 = .ok (.iadd, 1) := dk_96 (dk_at dksL_law_76 18 rfl rfl)
theorem dL_law_1945 : decode cL_law 1945 = .ok (.iaload, 1) := dk_46 (dk_at dksL_law_76 19 rfl rfl)
theorem dL_law_1946 : decode cL_law 1946 = .ok (.invokevirtual 241, 3) := dk_182 0 241 (dk_at dksL_law_76 20 rfl rfl)
theorem dL_law_1949 : decode cL_law 1949 = .ok (.istore 6, 2) := dk_54 6 (dk_at dksL_law_77 0 rfl rfl)
theorem dL_law_1951 : decode cL_law 1951 = .ok (.aload_n 2, 1) := dk_44 (dk_at dksL_law_77 2 rfl rfl)
theorem dL_law_1952 : decode cL_law 1952 = .ok (.invokevirtual 116, 3) := dk_182 0 116 (dk_at dksL_law_77 3 rfl rfl)
theorem dL_law_1955 : decode cL_law 1955 = .ok (.iload 5, 2) := dk_21 5 (dk_at dksL_law_77 6 rfl rfl)
theorem dL_law_1957 : decode cL_law 1957 = .ok (.if_icmp .eq 5, 3) := dk_159 0 5 (dk_at dksL_law_77 8 rfl rfl)
theorem dL_law_1960 : decode cL_law 1960 = .ok (.iconst 0, 1) := dk_3 (dk_at dksL_law_77 11 rfl rfl)
theorem dL_law_1961 : decode cL_law 1961 = .ok (.ireturn, 1) := dk_172 (dk_at dksL_law_77 12 rfl rfl)
theorem dL_law_1962 : decode cL_law 1962 = .ok (.iload 5, 2) := dk_21 5 (dk_at dksL_law_77 13 rfl rfl)
theorem dL_law_1964 : decode cL_law 1964 = .ok (.ifCond .ne 15, 3) := dk_154 0 15 (dk_at dksL_law_77 15 rfl rfl)
theorem dL_law_1967 : decode cL_law 1967 = .ok (.aload_n 3, 1) := dk_45 (dk_at dksL_law_77 18 rfl rfl)
theorem dL_law_1968 : decode cL_law 1968 = .ok (.iconst 0, 1) := dk_3 (dk_at dksL_law_77 19 rfl rfl)
theorem dL_law_1969 : decode cL_law 1969 = .ok (.laload, 1) := dk_47 (dk_at dksL_law_77 20 rfl rfl)
theorem dL_law_1970 : decode cL_law 1970 = .ok (.iload 6, 2) := dk_21 6 (dk_at dksL_law_77 21 rfl rfl)
theorem dL_law_1972 : decode cL_law 1972 = .ok (.i2l, 1) := dk_133 (dk_at dksL_law_77 23 rfl rfl)
theorem dL_law_1973 : decode cL_law 1973 = .ok (.lcmp, 1) := dk_148 (dk_at dksL_law_78 0 rfl rfl)
theorem dL_law_1974 : decode cL_law 1974 = .ok (.ifCond .eq 5, 3) := dk_153 0 5 (dk_at dksL_law_78 1 rfl rfl)
theorem dL_law_1977 : decode cL_law 1977 = .ok (.iconst 0, 1) := dk_3 (dk_at dksL_law_78 4 rfl rfl)
theorem dL_law_1978 : decode cL_law 1978 = .ok (.ireturn, 1) := dk_172 (dk_at dksL_law_78 5 rfl rfl)
theorem dL_law_1979 : decode cL_law 1979 = .ok (.goto 228, 3) := dk_167 0 228 (dk_at dksL_law_78 6 rfl rfl)
theorem dL_law_1982 : decode cL_law 1982 = .ok (.aload_n 1, 1) := dk_43 (dk_at dksL_law_78 9 rfl rfl)
theorem dL_law_1983 : decode cL_law 1983 = .ok (.invokevirtual 242, 3) := dk_182 0 242 (dk_at dksL_law_78 10 rfl rfl)
theorem dL_law_1986 : decode cL_law 1986 = .ok (.aload_n 2, 1) := dk_44 (dk_at dksL_law_78 13 rfl rfl)
theorem dL_law_1987 : decode cL_law 1987 = .ok (.invokevirtual 245, 3) := dk_182 0 245 (dk_at dksL_law_78 14 rfl rfl)
theorem dL_law_1990 : decode cL_law 1990 = .ok (.if_icmp .eq 217, 3) := dk_159 0 217 (dk_at dksL_law_78 17 rfl rfl)
theorem dL_law_1993 : decode cL_law 1993 = .ok (.iconst 0, 1) := dk_3 (dk_at dksL_law_78 20 rfl rfl)
theorem dL_law_1994 : decode cL_law 1994 = .ok (.ireturn, 1) := dk_172 (dk_at dksL_law_78 21 rfl rfl)
theorem dL_law_1995 : decode cL_law 1995 = .ok (.aload_n 1, 1) := dk_43 (dk_at dksL_law_78 22 rfl rfl)
theorem dL_law_1996 : decode cL_law 1996 = .ok (.aload_n 0, 1) := dk_42 (dk_at dksL_law_78 23 rfl rfl)
theorem dL_law_1997 : decode cL_law 1997 = .ok (.iload 4, 2) := dk_21 4 (dk_at dksL_law_79 0 rfl rfl)
theorem dL_law_1999 : decode cL_law 1999 = .ok (.iconst 1, 1) := dk_4 (dk_at dksL_law_79 2 rfl rfl)
theorem dL_law_2000 : decode cL_law 2000 = .ok (.iadd, 1) := dk_96 (dk_at dksL_law_79 3 rfl rfl)
theorem dL_law_2001 : decode cL_law 2001 = .ok (.iaload, 1) := dk_46 (dk_at dksL_law_79 4 rfl rfl)
theorem dL_law_2002 : decode cL_law 2002 = .ok (.aload_n 3, 1) := dk_45 (dk_at dksL_law_79 5 rfl rfl)
theorem dL_law_2003 : decode cL_law 2003 = .ok (.invokestatic 246, 3) := dk_184 0 246 (dk_at dksL_law_79 6 rfl rfl)
theorem dL_law_2006 : decode cL_law 2006 = .ok (.istore 5, 2) := dk_54 5 (dk_at dksL_law_79 9 rfl rfl)
theorem dL_law_2008 : decode cL_law 2008 = .ok (.aload_n 2, 1) := dk_44 (dk_at dksL_law_79 11 rfl rfl)
theorem dL_law_2009 : decode cL_law 2009 = .ok (.aload_n 0, 1) := dk_42 (dk_at dksL_law_79 12 rfl rfl)
theorem dL_law_2010 : decode cL_law 2010 = .ok (.iload 4, 2) := dk_21 4 (dk_at dksL_law_79 13 rfl rfl)
theorem dL_law_2012 : decode cL_law 2012 = .ok (.iconst 1, 1) := dk_4 (dk_at dksL_law_79 15 rfl rfl)
theorem dL_law_2013 : decode cL_law 2013 = .ok (.iadd, 1) := dk_96 (dk_at dksL_law_79 16 rfl rfl)
theorem dL_law_2014 : decode cL_law 2014 = .ok (.iaload, 1) := dk_46 (dk_at dksL_law_79 17 rfl rfl)
theorem dL_law_2015 : decode cL_law 2015 = .ok (.invokevirtual 248, 3) := dk_182 0 248 (dk_at dksL_law_79 18 rfl rfl)
theorem dL_law_2018 : decode cL_law 2018 = .ok (.istore 6, 2) := dk_54 6 (dk_at dksL_law_79 21 rfl rfl)
theorem dL_law_2020 : decode cL_law 2020 = .ok (.aload_n 2, 1) := dk_44 (dk_at dksL_law_79 23 rfl rfl)
theorem dL_law_2021 : decode cL_law 2021 = .ok (.invokevirtual 116, 3) := dk_182 0 116 (dk_at dksL_law_80 0 rfl rfl)
theorem dL_law_2024 : decode cL_law 2024 = .ok (.iload 5, 2) := dk_21 5 (dk_at dksL_law_80 3 rfl rfl)
theorem dL_law_2026 : decode cL_law 2026 = .ok (.if_icmp .eq 5, 3) := dk_159 0 5 (dk_at dksL_law_80 5 rfl rfl)
theorem dL_law_2029 : decode cL_law 2029 = .ok (.iconst 0, 1) := dk_3 (dk_at dksL_law_80 8 rfl rfl)
theorem dL_law_2030 : decode cL_law 2030 = .ok (.ireturn, 1) := dk_172 (dk_at dksL_law_80 9 rfl rfl)
theorem dL_law_2031 : decode cL_law 2031 = .ok (.iload 5, 2) := dk_21 5 (dk_at dksL_law_80 10 rfl rfl)
theorem dL_law_2033 : decode cL_law 2033 = .ok (.ifCond .ne 15, 3) := dk_154 0 15 (dk_at dksL_law_80 12 rfl rfl)
theorem dL_law_2036 : decode cL_law 2036 = .ok (.aload_n 3, 1) := dk_45 (dk_at dksL_law_80 15 rfl rfl)
theorem dL_law_2037 : decode cL_law 2037 = .ok (.iconst 0, 1) := dk_3 (dk_at dksL_law_80 16 rfl rfl)
theorem dL_law_2038 : decode cL_law 2038 = .ok (.laload, 1) := dk_47 (dk_at dksL_law_80 17 rfl rfl)
theorem dL_law_2039 : decode cL_law 2039 = .ok (.iload 6, 2) := dk_21 6 (dk_at dksL_law_80 18 rfl rfl)
theorem dL_law_2041 : decode cL_law 2041 = .ok (.i2l, 1) := dk_133 (dk_at dksL_law_80 20 rfl rfl)
theorem dL_law_2042 : decode cL_law 2042 = .ok (.lcmp, 1) := dk_148 (dk_at dksL_law_80 21 rfl rfl)
theorem dL_law_2043 : decode cL_law 2043 = .ok (.ifCond .eq 5, 3) := dk_153 0 5 (dk_at dksL_law_81 0 rfl rfl)
theorem dL_law_2046 : decode cL_law 2046 = .ok (.iconst 0, 1) := dk_3 (dk_at dksL_law_81 3 rfl rfl)
theorem dL_law_2047 : decode cL_law 2047 = .ok (.ireturn, 1) := dk_172 (dk_at dksL_law_81 4 rfl rfl)
theorem dL_law_2048 : decode cL_law 2048 = .ok (.goto 159, 3) := dk_167 0 159 (dk_at dksL_law_81 5 rfl rfl)
theorem dL_law_2051 : decode cL_law 2051 = .ok (.aload_n 1, 1) := dk_43 (dk_at dksL_law_81 8 rfl rfl)
theorem dL_law_2052 : decode cL_law 2052 = .ok (.aload_n 3, 1) := dk_45 (dk_at dksL_law_81 9 rfl rfl)
theorem dL_law_2053 : decode cL_law 2053 = .ok (.invokestatic 249, 3) := dk_184 0 249 (dk_at dksL_law_81 10 rfl rfl)
theorem dL_law_2056 : decode cL_law 2056 = .ok (.istore 5, 2) := dk_54 5 (dk_at dksL_law_81 13 rfl rfl)
theorem dL_law_2058 : decode cL_law 2058 = .ok (.aload_n 2, 1) := dk_44 (dk_at dksL_law_81 15 rfl rfl)
theorem dL_law_2059 : decode cL_law 2059 = .ok (.invokevirtual 252, 3) := dk_182 0 252 (dk_at dksL_law_81 16 rfl rfl)
theorem dL_law_2062 : decode cL_law 2062 = .ok (.istore 6, 2) := dk_54 6 (dk_at dksL_law_81 19 rfl rfl)
theorem dL_law_2064 : decode cL_law 2064 = .ok (.aload_n 2, 1) := dk_44 (dk_at dksL_law_81 21 rfl rfl)
theorem dL_law_2065 : decode cL_law 2065 = .ok (.invokevirtual 116, 3) := dk_182 0 116 (dk_at dksL_law_82 0 rfl rfl)
theorem dL_law_2068 : decode cL_law 2068 = .ok (.iload 5, 2) := dk_21 5 (dk_at dksL_law_82 3 rfl rfl)
theorem dL_law_2070 : decode cL_law 2070 = .ok (.if_icmp .eq 5, 3) := dk_159 0 5 (dk_at dksL_law_82 5 rfl rfl)
theorem dL_law_2073 : decode cL_law 2073 = .ok (.iconst 0, 1) := dk_3 (dk_at dksL_law_82 8 rfl rfl)
theorem dL_law_2074 : decode cL_law 2074 = .ok (.ireturn, 1) := dk_172 (dk_at dksL_law_82 9 rfl rfl)
theorem dL_law_2075 : decode cL_law 2075 = .ok (.iload 5, 2) := dk_21 5 (dk_at dksL_law_82 10 rfl rfl)
theorem dL_law_2077 : decode cL_law 2077 = .ok (.ifCond .ne 15, 3) := dk_154 0 15 (dk_at dksL_law_82 12 rfl rfl)
theorem dL_law_2080 : decode cL_law 2080 = .ok (.aload_n 3, 1) := dk_45 (dk_at dksL_law_82 15 rfl rfl)
theorem dL_law_2081 : decode cL_law 2081 = .ok (.iconst 0, 1) := dk_3 (dk_at dksL_law_82 16 rfl rfl)
theorem dL_law_2082 : decode cL_law 2082 = .ok (.laload, 1) := dk_47 (dk_at dksL_law_82 17 rfl rfl)
theorem dL_law_2083 : decode cL_law 2083 = .ok (.iload 6, 2) := dk_21 6 (dk_at dksL_law_82 18 rfl rfl)
theorem dL_law_2085 : decode cL_law 2085 = .ok (.i2l, 1) := dk_133 (dk_at dksL_law_82 20 rfl rfl)
theorem dL_law_2086 : decode cL_law 2086 = .ok (.lcmp, 1) := dk_148 (dk_at dksL_law_82 21 rfl rfl)
theorem dL_law_2087 : decode cL_law 2087 = .ok (.ifCond .eq 5, 3) := dk_153 0 5 (dk_at dksL_law_83 0 rfl rfl)
theorem dL_law_2090 : decode cL_law 2090 = .ok (.iconst 0, 1) := dk_3 (dk_at dksL_law_83 3 rfl rfl)
theorem dL_law_2091 : decode cL_law 2091 = .ok (.ireturn, 1) := dk_172 (dk_at dksL_law_83 4 rfl rfl)
theorem dL_law_2092 : decode cL_law 2092 = .ok (.goto 115, 3) := dk_167 0 115 (dk_at dksL_law_83 5 rfl rfl)
theorem dL_law_2095 : decode cL_law 2095 = .ok (.aload_n 1, 1) := dk_43 (dk_at dksL_law_83 8 rfl rfl)
theorem dL_law_2096 : decode cL_law 2096 = .ok (.aload_n 0, 1) := dk_42 (dk_at dksL_law_83 9 rfl rfl)
theorem dL_law_2097 : decode cL_law 2097 = .ok (.iload 4, 2) := dk_21 4 (dk_at dksL_law_83 10 rfl rfl)
theorem dL_law_2099 : decode cL_law 2099 = .ok (.iconst 1, 1) := dk_4 (dk_at dksL_law_83 12 rfl rfl)
theorem dL_law_2100 : decode cL_law 2100 = .ok (.iadd, 1) := dk_96 (dk_at dksL_law_83 13 rfl rfl)
theorem dL_law_2101 : decode cL_law 2101 = .ok (.iaload, 1) := dk_46 (dk_at dksL_law_83 14 rfl rfl)
theorem dL_law_2102 : decode cL_law 2102 = .ok (.aload_n 3, 1) := dk_45 (dk_at dksL_law_83 15 rfl rfl)
theorem dL_law_2103 : decode cL_law 2103 = .ok (.invokestatic 253, 3) := dk_184 0 253 (dk_at dksL_law_83 16 rfl rfl)
theorem dL_law_2106 : decode cL_law 2106 = .ok (.istore 5, 2) := dk_54 5 (dk_at dksL_law_83 19 rfl rfl)
theorem dL_law_2108 : decode cL_law 2108 = .ok (.aload_n 2, 1) := dk_44 (dk_at dksL_law_83 21 rfl rfl)
theorem dL_law_2109 : decode cL_law 2109 = .ok (.aload_n 0, 1) := dk_42 (dk_at dksL_law_83 22 rfl rfl)
theorem dL_law_2110 : decode cL_law 2110 = .ok (.iload 4, 2) := dk_21 4 (dk_at dksL_law_84 0 rfl rfl)
theorem dL_law_2112 : decode cL_law 2112 = .ok (.iconst 1, 1) := dk_4 (dk_at dksL_law_84 2 rfl rfl)
theorem dL_law_2113 : decode cL_law 2113 = .ok (.iadd, 1) := dk_96 (dk_at dksL_law_84 3 rfl rfl)
theorem dL_law_2114 : decode cL_law 2114 = .ok (.iaload, 1) := dk_46 (dk_at dksL_law_84 4 rfl rfl)
theorem dL_law_2115 : decode cL_law 2115 = .ok (.invokevirtual 255, 3) := dk_182 0 255 (dk_at dksL_law_84 5 rfl rfl)
theorem dL_law_2118 : decode cL_law 2118 = .ok (.istore 6, 2) := dk_54 6 (dk_at dksL_law_84 8 rfl rfl)
theorem dL_law_2120 : decode cL_law 2120 = .ok (.aload_n 2, 1) := dk_44 (dk_at dksL_law_84 10 rfl rfl)
theorem dL_law_2121 : decode cL_law 2121 = .ok (.invokevirtual 116, 3) := dk_182 0 116 (dk_at dksL_law_84 11 rfl rfl)
theorem dL_law_2124 : decode cL_law 2124 = .ok (.iload 5, 2) := dk_21 5 (dk_at dksL_law_84 14 rfl rfl)
theorem dL_law_2126 : decode cL_law 2126 = .ok (.if_icmp .eq 5, 3) := dk_159 0 5 (dk_at dksL_law_84 16 rfl rfl)
theorem dL_law_2129 : decode cL_law 2129 = .ok (.iconst 0, 1) := dk_3 (dk_at dksL_law_84 19 rfl rfl)
theorem dL_law_2130 : decode cL_law 2130 = .ok (.ireturn, 1) := dk_172 (dk_at dksL_law_84 20 rfl rfl)
theorem dL_law_2131 : decode cL_law 2131 = .ok (.iload 5, 2) := dk_21 5 (dk_at dksL_law_84 21 rfl rfl)
theorem dL_law_2133 : decode cL_law 2133 = .ok (.ifCond .ne 15, 3) := dk_154 0 15 (dk_at dksL_law_85 0 rfl rfl)
theorem dL_law_2136 : decode cL_law 2136 = .ok (.aload_n 3, 1) := dk_45 (dk_at dksL_law_85 3 rfl rfl)
theorem dL_law_2137 : decode cL_law 2137 = .ok (.iconst 0, 1) := dk_3 (dk_at dksL_law_85 4 rfl rfl)
theorem dL_law_2138 : decode cL_law 2138 = .ok (.laload, 1) := dk_47 (dk_at dksL_law_85 5 rfl rfl)
theorem dL_law_2139 : decode cL_law 2139 = .ok (.iload 6, 2) := dk_21 6 (dk_at dksL_law_85 6 rfl rfl)
theorem dL_law_2141 : decode cL_law 2141 = .ok (.i2l, 1) := dk_133 (dk_at dksL_law_85 8 rfl rfl)
theorem dL_law_2142 : decode cL_law 2142 = .ok (.lcmp, 1) := dk_148 (dk_at dksL_law_85 9 rfl rfl)
theorem dL_law_2143 : decode cL_law 2143 = .ok (.ifCond .eq 5, 3) := dk_153 0 5 (dk_at dksL_law_85 10 rfl rfl)
theorem dL_law_2146 : decode cL_law 2146 = .ok (.iconst 0, 1) := dk_3 (dk_at dksL_law_85 13 rfl rfl)
theorem dL_law_2147 : decode cL_law 2147 = .ok (.ireturn, 1) := dk_172 (dk_at dksL_law_85 14 rfl rfl)
theorem dL_law_2148 : decode cL_law 2148 = .ok (.goto 59, 3) := dk_167 0 59 (dk_at dksL_law_85 15 rfl rfl)
theorem dL_law_2151 : decode cL_law 2151 = .ok (.aload_n 1, 1) := dk_43 (dk_at dksL_law_85 18 rfl rfl)
theorem dL_law_2152 : decode cL_law 2152 = .ok (.aload_n 0, 1) := dk_42 (dk_at dksL_law_85 19 rfl rfl)
theorem dL_law_2153 : decode cL_law 2153 = .ok (.iload 4, 2) := dk_21 4 (dk_at dksL_law_85 20 rfl rfl)
theorem dL_law_2155 : decode cL_law 2155 = .ok (.iconst 1, 1) := dk_4 (dk_at dksL_law_85 22 rfl rfl)
theorem dL_law_2156 : decode cL_law 2156 = .ok (.iadd, 1) := dk_96 (dk_at dksL_law_85 23 rfl rfl)
theorem dL_law_2157 : decode cL_law 2157 = .ok (.iaload, 1) := dk_46 (dk_at dksL_law_86 0 rfl rfl)
theorem dL_law_2158 : decode cL_law 2158 = .ok (.aload_n 3, 1) := dk_45 (dk_at dksL_law_86 1 rfl rfl)
theorem dL_law_2159 : decode cL_law 2159 = .ok (.invokestatic 256, 3) := dk_184 1 0 (dk_at dksL_law_86 2 rfl rfl)
theorem dL_law_2162 : decode cL_law 2162 = .ok (.istore 5, 2) := dk_54 5 (dk_at dksL_law_86 5 rfl rfl)
theorem dL_law_2164 : decode cL_law 2164 = .ok (.aload_n 2, 1) := dk_44 (dk_at dksL_law_86 7 rfl rfl)
theorem dL_law_2165 : decode cL_law 2165 = .ok (.aload_n 0, 1) := dk_42 (dk_at dksL_law_86 8 rfl rfl)
theorem dL_law_2166 : decode cL_law 2166 = .ok (.iload 4, 2) := dk_21 4 (dk_at dksL_law_86 9 rfl rfl)
theorem dL_law_2168 : decode cL_law 2168 = .ok (.iconst 1, 1) := dk_4 (dk_at dksL_law_86 11 rfl rfl)
theorem dL_law_2169 : decode cL_law 2169 = .ok (.iadd, 1) := dk_96 (dk_at dksL_law_86 12 rfl rfl)
theorem dL_law_2170 : decode cL_law 2170 = .ok (.iaload, 1) := dk_46 (dk_at dksL_law_86 13 rfl rfl)
theorem dL_law_2171 : decode cL_law 2171 = .ok (.invokevirtual 258, 3) := dk_182 1 2 (dk_at dksL_law_86 14 rfl rfl)
theorem dL_law_2174 : decode cL_law 2174 = .ok (.istore 6, 2) := dk_54 6 (dk_at dksL_law_86 17 rfl rfl)
theorem dL_law_2176 : decode cL_law 2176 = .ok (.aload_n 2, 1) := dk_44 (dk_at dksL_law_86 19 rfl rfl)
theorem dL_law_2177 : decode cL_law 2177 = .ok (.invokevirtual 116, 3) := dk_182 0 116 (dk_at dksL_law_86 20 rfl rfl)
theorem dL_law_2180 : decode cL_law 2180 = .ok (.iload 5, 2) := dk_21 5 (dk_at dksL_law_87 0 rfl rfl)
theorem dL_law_2182 : decode cL_law 2182 = .ok (.if_icmp .eq 5, 3) := dk_159 0 5 (dk_at dksL_law_87 2 rfl rfl)
theorem dL_law_2185 : decode cL_law 2185 = .ok (.iconst 0, 1) := dk_3 (dk_at dksL_law_87 5 rfl rfl)
theorem dL_law_2186 : decode cL_law 2186 = .ok (.ireturn, 1) := dk_172 (dk_at dksL_law_87 6 rfl rfl)
theorem dL_law_2187 : decode cL_law 2187 = .ok (.iload 5, 2) := dk_21 5 (dk_at dksL_law_87 7 rfl rfl)
theorem dL_law_2189 : decode cL_law 2189 = .ok (.ifCond .ne 15, 3) := dk_154 0 15 (dk_at dksL_law_87 9 rfl rfl)
theorem dL_law_2192 : decode cL_law 2192 = .ok (.aload_n 3, 1) := dk_45 (dk_at dksL_law_87 12 rfl rfl)
theorem dL_law_2193 : decode cL_law 2193 = .ok (.iconst 0, 1) := dk_3 (dk_at dksL_law_87 13 rfl rfl)
theorem dL_law_2194 : decode cL_law 2194 = .ok (.laload, 1) := dk_47 (dk_at dksL_law_87 14 rfl rfl)
theorem dL_law_2195 : decode cL_law 2195 = .ok (.iload 6, 2) := dk_21 6 (dk_at dksL_law_87 15 rfl rfl)
theorem dL_law_2197 : decode cL_law 2197 = .ok (.i2l, 1) := dk_133 (dk_at dksL_law_87 17 rfl rfl)
theorem dL_law_2198 : decode cL_law 2198 = .ok (.lcmp, 1) := dk_148 (dk_at dksL_law_87 18 rfl rfl)
theorem dL_law_2199 : decode cL_law 2199 = .ok (.ifCond .eq 5, 3) := dk_153 0 5 (dk_at dksL_law_87 19 rfl rfl)
theorem dL_law_2202 : decode cL_law 2202 = .ok (.iconst 0, 1) := dk_3 (dk_at dksL_law_87 22 rfl rfl)
theorem dL_law_2203 : decode cL_law 2203 = .ok (.ireturn, 1) := dk_172 (dk_at dksL_law_87 23 rfl rfl)
theorem dL_law_2204 : decode cL_law 2204 = .ok (.goto 3, 3) := dk_167 0 3 (dk_at dksL_law_88 0 rfl rfl)
theorem dL_law_2207 : decode cL_law 2207 = .ok (.iinc 4 6, 3) := dk_132 4 6 (dk_at dksL_law_88 3 rfl rfl)
theorem dL_law_2210 : decode cL_law 2210 = .ok (.goto (-2187), 3) := dk_167 247 117 (dk_at dksL_law_88 6 rfl rfl)
theorem dL_law_2213 : decode cL_law 2213 = .ok (.iconst 1, 1) := dk_4 (dk_at dksL_law_88 9 rfl rfl)
theorem dL_law_2214 : decode cL_law 2214 = .ok (.ireturn, 1) := dk_172 (dk_at dksL_law_88 10 rfl rfl)
/-! ExactChainsLaw -/
set_option maxRecDepth 100000
def RX0 : String := "ExactChainsLaw"
abbrev cX0_append : ByteArray := method_3_code
def yX0_append : MethodName := ⟨RX0, "append", "(LExactChains;IIIII[J)I"⟩
def dkwX0_append_1 : List UInt8 := [172]
abbrev dktX0_append_1 : List UInt8 := dkwX0_append_1 ++ []
def dkwX0_append_0 : List UInt8 := [25, 6, 3, 42, 27, 28, 29, 21, 4, 21, 5, 182, 0, 7, 133, 80, 167, 0, 7, 58, 7, 4, 172, 3]
abbrev dktX0_append_0 : List UInt8 := dkwX0_append_0 ++ dktX0_append_1
theorem dksX0_append_0 : cX0_append.data.toList.drop 0 = dktX0_append_0 := by decide +kernel
theorem dksX0_append_1 : cX0_append.data.toList.drop 24 = dktX0_append_1 := dk_seg dksX0_append_0 24 rfl rfl
theorem dX0_append_0 : decode cX0_append 0 = .ok (.aload 6, 2) := dk_25 6 (dk_at dksX0_append_0 0 rfl rfl)
theorem dX0_append_2 : decode cX0_append 2 = .ok (.iconst 0, 1) := dk_3 (dk_at dksX0_append_0 2 rfl rfl)
theorem dX0_append_3 : decode cX0_append 3 = .ok (.aload_n 0, 1) := dk_42 (dk_at dksX0_append_0 3 rfl rfl)
theorem dX0_append_4 : decode cX0_append 4 = .ok (.iload_n 1, 1) := dk_27 (dk_at dksX0_append_0 4 rfl rfl)
theorem dX0_append_5 : decode cX0_append 5 = .ok (.iload_n 2, 1) := dk_28 (dk_at dksX0_append_0 5 rfl rfl)
theorem dX0_append_6 : decode cX0_append 6 = .ok (.iload_n 3, 1) := dk_29 (dk_at dksX0_append_0 6 rfl rfl)
theorem dX0_append_7 : decode cX0_append 7 = .ok (.iload 4, 2) := dk_21 4 (dk_at dksX0_append_0 7 rfl rfl)
theorem dX0_append_9 : decode cX0_append 9 = .ok (.iload 5, 2) := dk_21 5 (dk_at dksX0_append_0 9 rfl rfl)
theorem dX0_append_11 : decode cX0_append 11 = .ok (.invokevirtual 7, 3) := dk_182 0 7 (dk_at dksX0_append_0 11 rfl rfl)
theorem dX0_append_14 : decode cX0_append 14 = .ok (.i2l, 1) := dk_133 (dk_at dksX0_append_0 14 rfl rfl)
theorem dX0_append_15 : decode cX0_append 15 = .ok (.lastore, 1) := dk_80 (dk_at dksX0_append_0 15 rfl rfl)
theorem dX0_append_16 : decode cX0_append 16 = .ok (.goto 7, 3) := dk_167 0 7 (dk_at dksX0_append_0 16 rfl rfl)
theorem dX0_append_19 : decode cX0_append 19 = .ok (.astore 7, 2) := dk_58 7 (dk_at dksX0_append_0 19 rfl rfl)
theorem dX0_append_21 : decode cX0_append 21 = .ok (.iconst 1, 1) := dk_4 (dk_at dksX0_append_0 21 rfl rfl)
theorem dX0_append_22 : decode cX0_append 22 = .ok (.ireturn, 1) := dk_172 (dk_at dksX0_append_0 22 rfl rfl)
theorem dX0_append_23 : decode cX0_append 23 = .ok (.iconst 0, 1) := dk_3 (dk_at dksX0_append_0 23 rfl rfl)
theorem dX0_append_24 : decode cX0_append 24 = .ok (.ireturn, 1) := dk_172 (dk_at dksX0_append_1 0 rfl rfl)
abbrev cX0_load : ByteArray := method_4_code
def yX0_load : MethodName := ⟨RX0, "load", "(LExactChains;I[J)I"⟩
def dkwX0_load_0 : List UInt8 := [44, 3, 42, 27, 182, 0, 15, 133, 80, 167, 0, 6, 78, 4, 172, 3, 172]
abbrev dktX0_load_0 : List UInt8 := dkwX0_load_0 ++ []
theorem dksX0_load_0 : cX0_load.data.toList.drop 0 = dktX0_load_0 := by decide +kernel
theorem dX0_load_0 : decode cX0_load 0 = .ok (.aload_n 2, 1) := dk_44 (dk_at dksX0_load_0 0 rfl rfl)
theorem dX0_load_1 : decode cX0_load 1 = .ok (.iconst 0, 1) := dk_3 (dk_at dksX0_load_0 1 rfl rfl)
theorem dX0_load_2 : decode cX0_load 2 = .ok (.aload_n 0, 1) := dk_42 (dk_at dksX0_load_0 2 rfl rfl)
theorem dX0_load_3 : decode cX0_load 3 = .ok (.iload_n 1, 1) := dk_27 (dk_at dksX0_load_0 3 rfl rfl)
theorem dX0_load_4 : decode cX0_load 4 = .ok (.invokevirtual 15, 3) := dk_182 0 15 (dk_at dksX0_load_0 4 rfl rfl)
theorem dX0_load_7 : decode cX0_load 7 = .ok (.i2l, 1) := dk_133 (dk_at dksX0_load_0 7 rfl rfl)
theorem dX0_load_8 : decode cX0_load 8 = .ok (.lastore, 1) := dk_80 (dk_at dksX0_load_0 8 rfl rfl)
theorem dX0_load_9 : decode cX0_load 9 = .ok (.goto 6, 3) := dk_167 0 6 (dk_at dksX0_load_0 9 rfl rfl)
theorem dX0_load_12 : decode cX0_load 12 = .ok (.astore_n 3, 1) := dk_78 (dk_at dksX0_load_0 12 rfl rfl)
theorem dX0_load_13 : decode cX0_load 13 = .ok (.iconst 1, 1) := dk_4 (dk_at dksX0_load_0 13 rfl rfl)
theorem dX0_load_14 : decode cX0_load 14 = .ok (.ireturn, 1) := dk_172 (dk_at dksX0_load_0 14 rfl rfl)
theorem dX0_load_15 : decode cX0_load 15 = .ok (.iconst 0, 1) := dk_3 (dk_at dksX0_load_0 15 rfl rfl)
theorem dX0_load_16 : decode cX0_load 16 = .ok (.ireturn, 1) := dk_172 (dk_at dksX0_load_0 16 rfl rfl)
abbrev cX0_count : ByteArray := method_5_code
def yX0_count : MethodName := ⟨RX0, "count", "(LExactChains;I[J)I"⟩
def dkwX0_count_0 : List UInt8 := [44, 3, 42, 27, 182, 0, 21, 133, 80, 167, 0, 6, 78, 4, 172, 3, 172]
abbrev dktX0_count_0 : List UInt8 := dkwX0_count_0 ++ []
theorem dksX0_count_0 : cX0_count.data.toList.drop 0 = dktX0_count_0 := by decide +kernel
theorem dX0_count_0 : decode cX0_count 0 = .ok (.aload_n 2, 1) := dk_44 (dk_at dksX0_count_0 0 rfl rfl)
theorem dX0_count_1 : decode cX0_count 1 = .ok (.iconst 0, 1) := dk_3 (dk_at dksX0_count_0 1 rfl rfl)
theorem dX0_count_2 : decode cX0_count 2 = .ok (.aload_n 0, 1) := dk_42 (dk_at dksX0_count_0 2 rfl rfl)
theorem dX0_count_3 : decode cX0_count 3 = .ok (.iload_n 1, 1) := dk_27 (dk_at dksX0_count_0 3 rfl rfl)
theorem dX0_count_4 : decode cX0_count 4 = .ok (.invokevirtual 21, 3) := dk_182 0 21 (dk_at dksX0_count_0 4 rfl rfl)
theorem dX0_count_7 : decode cX0_count 7 = .ok (.i2l, 1) := dk_133 (dk_at dksX0_count_0 7 rfl rfl)
theorem dX0_count_8 : decode cX0_count 8 = .ok (.lastore, 1) := dk_80 (dk_at dksX0_count_0 8 rfl rfl)
theorem dX0_count_9 : decode cX0_count 9 = .ok (.goto 6, 3) := dk_167 0 6 (dk_at dksX0_count_0 9 rfl rfl)
theorem dX0_count_12 : decode cX0_count 12 = .ok (.astore_n 3, 1) := dk_78 (dk_at dksX0_count_0 12 rfl rfl)
theorem dX0_count_13 : decode cX0_count 13 = .ok (.iconst 1, 1) := dk_4 (dk_at dksX0_count_0 13 rfl rfl)
theorem dX0_count_14 : decode cX0_count 14 = .ok (.ireturn, 1) := dk_172 (dk_at dksX0_count_0 14 rfl rfl)
theorem dX0_count_15 : decode cX0_count 15 = .ok (.iconst 0, 1) := dk_3 (dk_at dksX0_count_0 15 rfl rfl)
theorem dX0_count_16 : decode cX0_count 16 = .ok (.ireturn, 1) := dk_172 (dk_at dksX0_count_0 16 rfl rfl)
abbrev cX0_cell : ByteArray := method_6_code
def yX0_cell : MethodName := ⟨RX0, "cell", "(LExactChains;II[J)I"⟩
def dkwX0_cell_0 : List UInt8 := [45, 3, 42, 27, 28, 182, 0, 24, 133, 80, 167, 0, 7, 58, 4, 4, 172, 3, 172]
abbrev dktX0_cell_0 : List UInt8 := dkwX0_cell_0 ++ []
theorem dksX0_cell_0 : cX0_cell.data.toList.drop 0 = dktX0_cell_0 := by decide +kernel
theorem dX0_cell_0 : decode cX0_cell 0 = .ok (.aload_n 3, 1) := dk_45 (dk_at dksX0_cell_0 0 rfl rfl)
theorem dX0_cell_1 : decode cX0_cell 1 = .ok (.iconst 0, 1) := dk_3 (dk_at dksX0_cell_0 1 rfl rfl)
theorem dX0_cell_2 : decode cX0_cell 2 = .ok (.aload_n 0, 1) := dk_42 (dk_at dksX0_cell_0 2 rfl rfl)
theorem dX0_cell_3 : decode cX0_cell 3 = .ok (.iload_n 1, 1) := dk_27 (dk_at dksX0_cell_0 3 rfl rfl)
theorem dX0_cell_4 : decode cX0_cell 4 = .ok (.iload_n 2, 1) := dk_28 (dk_at dksX0_cell_0 4 rfl rfl)
theorem dX0_cell_5 : decode cX0_cell 5 = .ok (.invokevirtual 24, 3) := dk_182 0 24 (dk_at dksX0_cell_0 5 rfl rfl)
theorem dX0_cell_8 : decode cX0_cell 8 = .ok (.i2l, 1) := dk_133 (dk_at dksX0_cell_0 8 rfl rfl)
theorem dX0_cell_9 : decode cX0_cell 9 = .ok (.lastore, 1) := dk_80 (dk_at dksX0_cell_0 9 rfl rfl)
theorem dX0_cell_10 : decode cX0_cell 10 = .ok (.goto 7, 3) := dk_167 0 7 (dk_at dksX0_cell_0 10 rfl rfl)
theorem dX0_cell_13 : decode cX0_cell 13 = .ok (.astore 4, 2) := dk_58 4 (dk_at dksX0_cell_0 13 rfl rfl)
theorem dX0_cell_15 : decode cX0_cell 15 = .ok (.iconst 1, 1) := dk_4 (dk_at dksX0_cell_0 15 rfl rfl)
theorem dX0_cell_16 : decode cX0_cell 16 = .ok (.ireturn, 1) := dk_172 (dk_at dksX0_cell_0 16 rfl rfl)
theorem dX0_cell_17 : decode cX0_cell 17 = .ok (.iconst 0, 1) := dk_3 (dk_at dksX0_cell_0 17 rfl rfl)
theorem dX0_cell_18 : decode cX0_cell 18 = .ok (.ireturn, 1) := dk_172 (dk_at dksX0_cell_0 18 rfl rfl)
abbrev cX0_start : ByteArray := method_7_code
def yX0_start : MethodName := ⟨RX0, "start", "(LExactChains;I[J)I"⟩
def dkwX0_start_0 : List UInt8 := [44, 3, 42, 27, 182, 0, 30, 133, 80, 167, 0, 6, 78, 4, 172, 3, 172]
abbrev dktX0_start_0 : List UInt8 := dkwX0_start_0 ++ []
theorem dksX0_start_0 : cX0_start.data.toList.drop 0 = dktX0_start_0 := by decide +kernel
theorem dX0_start_0 : decode cX0_start 0 = .ok (.aload_n 2, 1) := dk_44 (dk_at dksX0_start_0 0 rfl rfl)
theorem dX0_start_1 : decode cX0_start 1 = .ok (.iconst 0, 1) := dk_3 (dk_at dksX0_start_0 1 rfl rfl)
theorem dX0_start_2 : decode cX0_start 2 = .ok (.aload_n 0, 1) := dk_42 (dk_at dksX0_start_0 2 rfl rfl)
theorem dX0_start_3 : decode cX0_start 3 = .ok (.iload_n 1, 1) := dk_27 (dk_at dksX0_start_0 3 rfl rfl)
theorem dX0_start_4 : decode cX0_start 4 = .ok (.invokevirtual 30, 3) := dk_182 0 30 (dk_at dksX0_start_0 4 rfl rfl)
theorem dX0_start_7 : decode cX0_start 7 = .ok (.i2l, 1) := dk_133 (dk_at dksX0_start_0 7 rfl rfl)
theorem dX0_start_8 : decode cX0_start 8 = .ok (.lastore, 1) := dk_80 (dk_at dksX0_start_0 8 rfl rfl)
theorem dX0_start_9 : decode cX0_start 9 = .ok (.goto 6, 3) := dk_167 0 6 (dk_at dksX0_start_0 9 rfl rfl)
theorem dX0_start_12 : decode cX0_start 12 = .ok (.astore_n 3, 1) := dk_78 (dk_at dksX0_start_0 12 rfl rfl)
theorem dX0_start_13 : decode cX0_start 13 = .ok (.iconst 1, 1) := dk_4 (dk_at dksX0_start_0 13 rfl rfl)
theorem dX0_start_14 : decode cX0_start 14 = .ok (.ireturn, 1) := dk_172 (dk_at dksX0_start_0 14 rfl rfl)
theorem dX0_start_15 : decode cX0_start 15 = .ok (.iconst 0, 1) := dk_3 (dk_at dksX0_start_0 15 rfl rfl)
theorem dX0_start_16 : decode cX0_start 16 = .ok (.ireturn, 1) := dk_172 (dk_at dksX0_start_0 16 rfl rfl)
abbrev cX0_setCell : ByteArray := method_8_code
def yX0_setCell : MethodName := ⟨RX0, "setCell", "(LExactChains;III[J)I"⟩
def dkwX0_setCell_1 : List UInt8 := [172]
abbrev dktX0_setCell_1 : List UInt8 := dkwX0_setCell_1 ++ []
def dkwX0_setCell_0 : List UInt8 := [25, 4, 3, 42, 27, 28, 29, 182, 0, 33, 133, 80, 167, 0, 11, 58, 5, 4, 172, 58, 5, 5, 172, 3]
abbrev dktX0_setCell_0 : List UInt8 := dkwX0_setCell_0 ++ dktX0_setCell_1
theorem dksX0_setCell_0 : cX0_setCell.data.toList.drop 0 = dktX0_setCell_0 := by decide +kernel
theorem dksX0_setCell_1 : cX0_setCell.data.toList.drop 24 = dktX0_setCell_1 := dk_seg dksX0_setCell_0 24 rfl rfl
theorem dX0_setCell_0 : decode cX0_setCell 0 = .ok (.aload 4, 2) := dk_25 4 (dk_at dksX0_setCell_0 0 rfl rfl)
theorem dX0_setCell_2 : decode cX0_setCell 2 = .ok (.iconst 0, 1) := dk_3 (dk_at dksX0_setCell_0 2 rfl rfl)
theorem dX0_setCell_3 : decode cX0_setCell 3 = .ok (.aload_n 0, 1) := dk_42 (dk_at dksX0_setCell_0 3 rfl rfl)
theorem dX0_setCell_4 : decode cX0_setCell 4 = .ok (.iload_n 1, 1) := dk_27 (dk_at dksX0_setCell_0 4 rfl rfl)
theorem dX0_setCell_5 : decode cX0_setCell 5 = .ok (.iload_n 2, 1) := dk_28 (dk_at dksX0_setCell_0 5 rfl rfl)
theorem dX0_setCell_6 : decode cX0_setCell 6 = .ok (.iload_n 3, 1) := dk_29 (dk_at dksX0_setCell_0 6 rfl rfl)
theorem dX0_setCell_7 : decode cX0_setCell 7 = .ok (.invokevirtual 33, 3) := dk_182 0 33 (dk_at dksX0_setCell_0 7 rfl rfl)
theorem dX0_setCell_10 : decode cX0_setCell 10 = .ok (.i2l, 1) := dk_133 (dk_at dksX0_setCell_0 10 rfl rfl)
theorem dX0_setCell_11 : decode cX0_setCell 11 = .ok (.lastore, 1) := dk_80 (dk_at dksX0_setCell_0 11 rfl rfl)
theorem dX0_setCell_12 : decode cX0_setCell 12 = .ok (.goto 11, 3) := dk_167 0 11 (dk_at dksX0_setCell_0 12 rfl rfl)
theorem dX0_setCell_15 : decode cX0_setCell 15 = .ok (.astore 5, 2) := dk_58 5 (dk_at dksX0_setCell_0 15 rfl rfl)
theorem dX0_setCell_17 : decode cX0_setCell 17 = .ok (.iconst 1, 1) := dk_4 (dk_at dksX0_setCell_0 17 rfl rfl)
theorem dX0_setCell_18 : decode cX0_setCell 18 = .ok (.ireturn, 1) := dk_172 (dk_at dksX0_setCell_0 18 rfl rfl)
theorem dX0_setCell_19 : decode cX0_setCell 19 = .ok (.astore 5, 2) := dk_58 5 (dk_at dksX0_setCell_0 19 rfl rfl)
theorem dX0_setCell_21 : decode cX0_setCell 21 = .ok (.iconst 2, 1) := dk_5 (dk_at dksX0_setCell_0 21 rfl rfl)
theorem dX0_setCell_22 : decode cX0_setCell 22 = .ok (.ireturn, 1) := dk_172 (dk_at dksX0_setCell_0 22 rfl rfl)
theorem dX0_setCell_23 : decode cX0_setCell 23 = .ok (.iconst 0, 1) := dk_3 (dk_at dksX0_setCell_0 23 rfl rfl)
theorem dX0_setCell_24 : decode cX0_setCell 24 = .ok (.ireturn, 1) := dk_172 (dk_at dksX0_setCell_1 0 rfl rfl)
abbrev cX0_setStart : ByteArray := method_9_code
def yX0_setStart : MethodName := ⟨RX0, "setStart", "(LExactChains;II[J)I"⟩
def dkwX0_setStart_0 : List UInt8 := [45, 3, 42, 27, 28, 182, 0, 37, 133, 80, 167, 0, 11, 58, 4, 4, 172, 58, 4, 5, 172, 3, 172]
abbrev dktX0_setStart_0 : List UInt8 := dkwX0_setStart_0 ++ []
theorem dksX0_setStart_0 : cX0_setStart.data.toList.drop 0 = dktX0_setStart_0 := by decide +kernel
theorem dX0_setStart_0 : decode cX0_setStart 0 = .ok (.aload_n 3, 1) := dk_45 (dk_at dksX0_setStart_0 0 rfl rfl)
theorem dX0_setStart_1 : decode cX0_setStart 1 = .ok (.iconst 0, 1) := dk_3 (dk_at dksX0_setStart_0 1 rfl rfl)
theorem dX0_setStart_2 : decode cX0_setStart 2 = .ok (.aload_n 0, 1) := dk_42 (dk_at dksX0_setStart_0 2 rfl rfl)
theorem dX0_setStart_3 : decode cX0_setStart 3 = .ok (.iload_n 1, 1) := dk_27 (dk_at dksX0_setStart_0 3 rfl rfl)
theorem dX0_setStart_4 : decode cX0_setStart 4 = .ok (.iload_n 2, 1) := dk_28 (dk_at dksX0_setStart_0 4 rfl rfl)
theorem dX0_setStart_5 : decode cX0_setStart 5 = .ok (.invokevirtual 37, 3) := dk_182 0 37 (dk_at dksX0_setStart_0 5 rfl rfl)
theorem dX0_setStart_8 : decode cX0_setStart 8 = .ok (.i2l, 1) := dk_133 (dk_at dksX0_setStart_0 8 rfl rfl)
theorem dX0_setStart_9 : decode cX0_setStart 9 = .ok (.lastore, 1) := dk_80 (dk_at dksX0_setStart_0 9 rfl rfl)
theorem dX0_setStart_10 : decode cX0_setStart 10 = .ok (.goto 11, 3) := dk_167 0 11 (dk_at dksX0_setStart_0 10 rfl rfl)
theorem dX0_setStart_13 : decode cX0_setStart 13 = .ok (.astore 4, 2) := dk_58 4 (dk_at dksX0_setStart_0 13 rfl rfl)
theorem dX0_setStart_15 : decode cX0_setStart 15 = .ok (.iconst 1, 1) := dk_4 (dk_at dksX0_setStart_0 15 rfl rfl)
theorem dX0_setStart_16 : decode cX0_setStart 16 = .ok (.ireturn, 1) := dk_172 (dk_at dksX0_setStart_0 16 rfl rfl)
theorem dX0_setStart_17 : decode cX0_setStart 17 = .ok (.astore 4, 2) := dk_58 4 (dk_at dksX0_setStart_0 17 rfl rfl)
theorem dX0_setStart_19 : decode cX0_setStart 19 = .ok (.iconst 2, 1) := dk_5 (dk_at dksX0_setStart_0 19 rfl rfl)
theorem dX0_setStart_20 : decode cX0_setStart 20 = .ok (.ireturn, 1) := dk_172 (dk_at dksX0_setStart_0 20 rfl rfl)
theorem dX0_setStart_21 : decode cX0_setStart 21 = .ok (.iconst 0, 1) := dk_3 (dk_at dksX0_setStart_0 21 rfl rfl)
theorem dX0_setStart_22 : decode cX0_setStart 22 = .ok (.ireturn, 1) := dk_172 (dk_at dksX0_setStart_0 22 rfl rfl)
abbrev cX0_setLimit : ByteArray := method_10_code
def yX0_setLimit : MethodName := ⟨RX0, "setLimit", "(LExactChains;I[J)I"⟩
def dkwX0_setLimit_0 : List UInt8 := [44, 3, 42, 27, 182, 0, 40, 133, 80, 167, 0, 6, 78, 4, 172, 3, 172]
abbrev dktX0_setLimit_0 : List UInt8 := dkwX0_setLimit_0 ++ []
theorem dksX0_setLimit_0 : cX0_setLimit.data.toList.drop 0 = dktX0_setLimit_0 := by decide +kernel
theorem dX0_setLimit_0 : decode cX0_setLimit 0 = .ok (.aload_n 2, 1) := dk_44 (dk_at dksX0_setLimit_0 0 rfl rfl)
theorem dX0_setLimit_1 : decode cX0_setLimit 1 = .ok (.iconst 0, 1) := dk_3 (dk_at dksX0_setLimit_0 1 rfl rfl)
theorem dX0_setLimit_2 : decode cX0_setLimit 2 = .ok (.aload_n 0, 1) := dk_42 (dk_at dksX0_setLimit_0 2 rfl rfl)
theorem dX0_setLimit_3 : decode cX0_setLimit 3 = .ok (.iload_n 1, 1) := dk_27 (dk_at dksX0_setLimit_0 3 rfl rfl)
theorem dX0_setLimit_4 : decode cX0_setLimit 4 = .ok (.invokevirtual 40, 3) := dk_182 0 40 (dk_at dksX0_setLimit_0 4 rfl rfl)
theorem dX0_setLimit_7 : decode cX0_setLimit 7 = .ok (.i2l, 1) := dk_133 (dk_at dksX0_setLimit_0 7 rfl rfl)
theorem dX0_setLimit_8 : decode cX0_setLimit 8 = .ok (.lastore, 1) := dk_80 (dk_at dksX0_setLimit_0 8 rfl rfl)
theorem dX0_setLimit_9 : decode cX0_setLimit 9 = .ok (.goto 6, 3) := dk_167 0 6 (dk_at dksX0_setLimit_0 9 rfl rfl)
theorem dX0_setLimit_12 : decode cX0_setLimit 12 = .ok (.astore_n 3, 1) := dk_78 (dk_at dksX0_setLimit_0 12 rfl rfl)
theorem dX0_setLimit_13 : decode cX0_setLimit 13 = .ok (.iconst 1, 1) := dk_4 (dk_at dksX0_setLimit_0 13 rfl rfl)
theorem dX0_setLimit_14 : decode cX0_setLimit 14 = .ok (.ireturn, 1) := dk_172 (dk_at dksX0_setLimit_0 14 rfl rfl)
theorem dX0_setLimit_15 : decode cX0_setLimit 15 = .ok (.iconst 0, 1) := dk_3 (dk_at dksX0_setLimit_0 15 rfl rfl)
theorem dX0_setLimit_16 : decode cX0_setLimit 16 = .ok (.ireturn, 1) := dk_172 (dk_at dksX0_setLimit_0 16 rfl rfl)
abbrev cX0_setRestarts : ByteArray := method_11_code
def yX0_setRestarts : MethodName := ⟨RX0, "setRestarts", "(LExactChains;I[J)I"⟩
def dkwX0_setRestarts_0 : List UInt8 := [44, 3, 42, 27, 182, 0, 43, 133, 80, 167, 0, 6, 78, 4, 172, 3, 172]
abbrev dktX0_setRestarts_0 : List UInt8 := dkwX0_setRestarts_0 ++ []
theorem dksX0_setRestarts_0 : cX0_setRestarts.data.toList.drop 0 = dktX0_setRestarts_0 := by decide +kernel
theorem dX0_setRestarts_0 : decode cX0_setRestarts 0 = .ok (.aload_n 2, 1) := dk_44 (dk_at dksX0_setRestarts_0 0 rfl rfl)
theorem dX0_setRestarts_1 : decode cX0_setRestarts 1 = .ok (.iconst 0, 1) := dk_3 (dk_at dksX0_setRestarts_0 1 rfl rfl)
theorem dX0_setRestarts_2 : decode cX0_setRestarts 2 = .ok (.aload_n 0, 1) := dk_42 (dk_at dksX0_setRestarts_0 2 rfl rfl)
theorem dX0_setRestarts_3 : decode cX0_setRestarts 3 = .ok (.iload_n 1, 1) := dk_27 (dk_at dksX0_setRestarts_0 3 rfl rfl)
theorem dX0_setRestarts_4 : decode cX0_setRestarts 4 = .ok (.invokevirtual 43, 3) := dk_182 0 43 (dk_at dksX0_setRestarts_0 4 rfl rfl)
theorem dX0_setRestarts_7 : decode cX0_setRestarts 7 = .ok (.i2l, 1) := dk_133 (dk_at dksX0_setRestarts_0 7 rfl rfl)
theorem dX0_setRestarts_8 : decode cX0_setRestarts 8 = .ok (.lastore, 1) := dk_80 (dk_at dksX0_setRestarts_0 8 rfl rfl)
theorem dX0_setRestarts_9 : decode cX0_setRestarts 9 = .ok (.goto 6, 3) := dk_167 0 6 (dk_at dksX0_setRestarts_0 9 rfl rfl)
theorem dX0_setRestarts_12 : decode cX0_setRestarts 12 = .ok (.astore_n 3, 1) := dk_78 (dk_at dksX0_setRestarts_0 12 rfl rfl)
theorem dX0_setRestarts_13 : decode cX0_setRestarts 13 = .ok (.iconst 1, 1) := dk_4 (dk_at dksX0_setRestarts_0 13 rfl rfl)
theorem dX0_setRestarts_14 : decode cX0_setRestarts 14 = .ok (.ireturn, 1) := dk_172 (dk_at dksX0_setRestarts_0 14 rfl rfl)
theorem dX0_setRestarts_15 : decode cX0_setRestarts 15 = .ok (.iconst 0, 1) := dk_3 (dk_at dksX0_setRestarts_0 15 rfl rfl)
theorem dX0_setRestarts_16 : decode cX0_setRestarts 16 = .ok (.ireturn, 1) := dk_172 (dk_at dksX0_setRestarts_0 16 rfl rfl)
abbrev cX0_run : ByteArray := method_12_code
def yX0_run : MethodName := ⟨RX0, "run", "(LExactChains;I[J)I"⟩
def dkwX0_run_0 : List UInt8 := [44, 3, 42, 27, 182, 0, 46, 133, 80, 167, 0, 6, 78, 4, 172, 3, 172]
abbrev dktX0_run_0 : List UInt8 := dkwX0_run_0 ++ []
theorem dksX0_run_0 : cX0_run.data.toList.drop 0 = dktX0_run_0 := by decide +kernel
theorem dX0_run_0 : decode cX0_run 0 = .ok (.aload_n 2, 1) := dk_44 (dk_at dksX0_run_0 0 rfl rfl)
theorem dX0_run_1 : decode cX0_run 1 = .ok (.iconst 0, 1) := dk_3 (dk_at dksX0_run_0 1 rfl rfl)
theorem dX0_run_2 : decode cX0_run 2 = .ok (.aload_n 0, 1) := dk_42 (dk_at dksX0_run_0 2 rfl rfl)
theorem dX0_run_3 : decode cX0_run 3 = .ok (.iload_n 1, 1) := dk_27 (dk_at dksX0_run_0 3 rfl rfl)
theorem dX0_run_4 : decode cX0_run 4 = .ok (.invokevirtual 46, 3) := dk_182 0 46 (dk_at dksX0_run_0 4 rfl rfl)
theorem dX0_run_7 : decode cX0_run 7 = .ok (.i2l, 1) := dk_133 (dk_at dksX0_run_0 7 rfl rfl)
theorem dX0_run_8 : decode cX0_run 8 = .ok (.lastore, 1) := dk_80 (dk_at dksX0_run_0 8 rfl rfl)
theorem dX0_run_9 : decode cX0_run 9 = .ok (.goto 6, 3) := dk_167 0 6 (dk_at dksX0_run_0 9 rfl rfl)
theorem dX0_run_12 : decode cX0_run 12 = .ok (.astore_n 3, 1) := dk_78 (dk_at dksX0_run_0 12 rfl rfl)
theorem dX0_run_13 : decode cX0_run 13 = .ok (.iconst 1, 1) := dk_4 (dk_at dksX0_run_0 13 rfl rfl)
theorem dX0_run_14 : decode cX0_run 14 = .ok (.ireturn, 1) := dk_172 (dk_at dksX0_run_0 14 rfl rfl)
theorem dX0_run_15 : decode cX0_run 15 = .ok (.iconst 0, 1) := dk_3 (dk_at dksX0_run_0 15 rfl rfl)
theorem dX0_run_16 : decode cX0_run 16 = .ok (.ireturn, 1) := dk_172 (dk_at dksX0_run_0 16 rfl rfl)
abbrev cX0_chain : ByteArray := method_13_code
def yX0_chain : MethodName := ⟨RX0, "chain", "(LExactChains;II[J)I"⟩
def dkwX0_chain_0 : List UInt8 := [45, 3, 42, 27, 28, 182, 0, 49, 133, 80, 167, 0, 11, 58, 4, 4, 172, 58, 4, 5, 172, 3, 172]
abbrev dktX0_chain_0 : List UInt8 := dkwX0_chain_0 ++ []
theorem dksX0_chain_0 : cX0_chain.data.toList.drop 0 = dktX0_chain_0 := by decide +kernel
theorem dX0_chain_0 : decode cX0_chain 0 = .ok (.aload_n 3, 1) := dk_45 (dk_at dksX0_chain_0 0 rfl rfl)
theorem dX0_chain_1 : decode cX0_chain 1 = .ok (.iconst 0, 1) := dk_3 (dk_at dksX0_chain_0 1 rfl rfl)
theorem dX0_chain_2 : decode cX0_chain 2 = .ok (.aload_n 0, 1) := dk_42 (dk_at dksX0_chain_0 2 rfl rfl)
theorem dX0_chain_3 : decode cX0_chain 3 = .ok (.iload_n 1, 1) := dk_27 (dk_at dksX0_chain_0 3 rfl rfl)
theorem dX0_chain_4 : decode cX0_chain 4 = .ok (.iload_n 2, 1) := dk_28 (dk_at dksX0_chain_0 4 rfl rfl)
theorem dX0_chain_5 : decode cX0_chain 5 = .ok (.invokevirtual 49, 3) := dk_182 0 49 (dk_at dksX0_chain_0 5 rfl rfl)
theorem dX0_chain_8 : decode cX0_chain 8 = .ok (.i2l, 1) := dk_133 (dk_at dksX0_chain_0 8 rfl rfl)
theorem dX0_chain_9 : decode cX0_chain 9 = .ok (.lastore, 1) := dk_80 (dk_at dksX0_chain_0 9 rfl rfl)
theorem dX0_chain_10 : decode cX0_chain 10 = .ok (.goto 11, 3) := dk_167 0 11 (dk_at dksX0_chain_0 10 rfl rfl)
theorem dX0_chain_13 : decode cX0_chain 13 = .ok (.astore 4, 2) := dk_58 4 (dk_at dksX0_chain_0 13 rfl rfl)
theorem dX0_chain_15 : decode cX0_chain 15 = .ok (.iconst 1, 1) := dk_4 (dk_at dksX0_chain_0 15 rfl rfl)
theorem dX0_chain_16 : decode cX0_chain 16 = .ok (.ireturn, 1) := dk_172 (dk_at dksX0_chain_0 16 rfl rfl)
theorem dX0_chain_17 : decode cX0_chain 17 = .ok (.astore 4, 2) := dk_58 4 (dk_at dksX0_chain_0 17 rfl rfl)
theorem dX0_chain_19 : decode cX0_chain 19 = .ok (.iconst 2, 1) := dk_5 (dk_at dksX0_chain_0 19 rfl rfl)
theorem dX0_chain_20 : decode cX0_chain 20 = .ok (.ireturn, 1) := dk_172 (dk_at dksX0_chain_0 20 rfl rfl)
theorem dX0_chain_21 : decode cX0_chain 21 = .ok (.iconst 0, 1) := dk_3 (dk_at dksX0_chain_0 21 rfl rfl)
theorem dX0_chain_22 : decode cX0_chain 22 = .ok (.ireturn, 1) := dk_172 (dk_at dksX0_chain_0 22 rfl rfl)
abbrev cX0_polynomial : ByteArray := method_14_code
def yX0_polynomial : MethodName := ⟨RX0, "polynomial", "(LExactChains;II[J)I"⟩
def dkwX0_polynomial_0 : List UInt8 := [45, 3, 42, 27, 28, 182, 0, 52, 133, 80, 167, 0, 11, 58, 4, 4, 172, 58, 4, 5, 172, 3, 172]
abbrev dktX0_polynomial_0 : List UInt8 := dkwX0_polynomial_0 ++ []
theorem dksX0_polynomial_0 : cX0_polynomial.data.toList.drop 0 = dktX0_polynomial_0 := by decide +kernel
theorem dX0_polynomial_0 : decode cX0_polynomial 0 = .ok (.aload_n 3, 1) := dk_45 (dk_at dksX0_polynomial_0 0 rfl rfl)
theorem dX0_polynomial_1 : decode cX0_polynomial 1 = .ok (.iconst 0, 1) := dk_3 (dk_at dksX0_polynomial_0 1 rfl rfl)
theorem dX0_polynomial_2 : decode cX0_polynomial 2 = .ok (.aload_n 0, 1) := dk_42 (dk_at dksX0_polynomial_0 2 rfl rfl)
theorem dX0_polynomial_3 : decode cX0_polynomial 3 = .ok (.iload_n 1, 1) := dk_27 (dk_at dksX0_polynomial_0 3 rfl rfl)
theorem dX0_polynomial_4 : decode cX0_polynomial 4 = .ok (.iload_n 2, 1) := dk_28 (dk_at dksX0_polynomial_0 4 rfl rfl)
theorem dX0_polynomial_5 : decode cX0_polynomial 5 = .ok (.invokevirtual 52, 3) := dk_182 0 52 (dk_at dksX0_polynomial_0 5 rfl rfl)
theorem dX0_polynomial_8 : decode cX0_polynomial 8 = .ok (.i2l, 1) := dk_133 (dk_at dksX0_polynomial_0 8 rfl rfl)
theorem dX0_polynomial_9 : decode cX0_polynomial 9 = .ok (.lastore, 1) := dk_80 (dk_at dksX0_polynomial_0 9 rfl rfl)
theorem dX0_polynomial_10 : decode cX0_polynomial 10 = .ok (.goto 11, 3) := dk_167 0 11 (dk_at dksX0_polynomial_0 10 rfl rfl)
theorem dX0_polynomial_13 : decode cX0_polynomial 13 = .ok (.astore 4, 2) := dk_58 4 (dk_at dksX0_polynomial_0 13 rfl rfl)
theorem dX0_polynomial_15 : decode cX0_polynomial 15 = .ok (.iconst 1, 1) := dk_4 (dk_at dksX0_polynomial_0 15 rfl rfl)
theorem dX0_polynomial_16 : decode cX0_polynomial 16 = .ok (.ireturn, 1) := dk_172 (dk_at dksX0_polynomial_0 16 rfl rfl)
theorem dX0_polynomial_17 : decode cX0_polynomial 17 = .ok (.astore 4, 2) := dk_58 4 (dk_at dksX0_polynomial_0 17 rfl rfl)
theorem dX0_polynomial_19 : decode cX0_polynomial 19 = .ok (.iconst 2, 1) := dk_5 (dk_at dksX0_polynomial_0 19 rfl rfl)
theorem dX0_polynomial_20 : decode cX0_polynomial 20 = .ok (.ireturn, 1) := dk_172 (dk_at dksX0_polynomial_0 20 rfl rfl)
theorem dX0_polynomial_21 : decode cX0_polynomial 21 = .ok (.iconst 0, 1) := dk_3 (dk_at dksX0_polynomial_0 21 rfl rfl)
theorem dX0_polynomial_22 : decode cX0_polynomial 22 = .ok (.ireturn, 1) := dk_172 (dk_at dksX0_polynomial_0 22 rfl rfl)
abbrev cX0_coefficient : ByteArray := method_15_code
def yX0_coefficient : MethodName := ⟨RX0, "coefficient", "(LExactChains;II[J)I"⟩
def dkwX0_coefficient_0 : List UInt8 := [45, 3, 42, 27, 28, 182, 0, 55, 133, 80, 167, 0, 11, 58, 4, 4, 172, 58, 4, 5, 172, 3, 172]
abbrev dktX0_coefficient_0 : List UInt8 := dkwX0_coefficient_0 ++ []
theorem dksX0_coefficient_0 : cX0_coefficient.data.toList.drop 0 = dktX0_coefficient_0 := by decide +kernel
theorem dX0_coefficient_0 : decode cX0_coefficient 0 = .ok (.aload_n 3, 1) := dk_45 (dk_at dksX0_coefficient_0 0 rfl rfl)
theorem dX0_coefficient_1 : decode cX0_coefficient 1 = .ok (.iconst 0, 1) := dk_3 (dk_at dksX0_coefficient_0 1 rfl rfl)
theorem dX0_coefficient_2 : decode cX0_coefficient 2 = .ok (.aload_n 0, 1) := dk_42 (dk_at dksX0_coefficient_0 2 rfl rfl)
theorem dX0_coefficient_3 : decode cX0_coefficient 3 = .ok (.iload_n 1, 1) := dk_27 (dk_at dksX0_coefficient_0 3 rfl rfl)
theorem dX0_coefficient_4 : decode cX0_coefficient 4 = .ok (.iload_n 2, 1) := dk_28 (dk_at dksX0_coefficient_0 4 rfl rfl)
theorem dX0_coefficient_5 : decode cX0_coefficient 5 = .ok (.invokevirtual 55, 3) := dk_182 0 55 (dk_at dksX0_coefficient_0 5 rfl rfl)
theorem dX0_coefficient_8 : decode cX0_coefficient 8 = .ok (.i2l, 1) := dk_133 (dk_at dksX0_coefficient_0 8 rfl rfl)
theorem dX0_coefficient_9 : decode cX0_coefficient 9 = .ok (.lastore, 1) := dk_80 (dk_at dksX0_coefficient_0 9 rfl rfl)
theorem dX0_coefficient_10 : decode cX0_coefficient 10 = .ok (.goto 11, 3) := dk_167 0 11 (dk_at dksX0_coefficient_0 10 rfl rfl)
theorem dX0_coefficient_13 : decode cX0_coefficient 13 = .ok (.astore 4, 2) := dk_58 4 (dk_at dksX0_coefficient_0 13 rfl rfl)
theorem dX0_coefficient_15 : decode cX0_coefficient 15 = .ok (.iconst 1, 1) := dk_4 (dk_at dksX0_coefficient_0 15 rfl rfl)
theorem dX0_coefficient_16 : decode cX0_coefficient 16 = .ok (.ireturn, 1) := dk_172 (dk_at dksX0_coefficient_0 16 rfl rfl)
theorem dX0_coefficient_17 : decode cX0_coefficient 17 = .ok (.astore 4, 2) := dk_58 4 (dk_at dksX0_coefficient_0 17 rfl rfl)
theorem dX0_coefficient_19 : decode cX0_coefficient 19 = .ok (.iconst 2, 1) := dk_5 (dk_at dksX0_coefficient_0 19 rfl rfl)
theorem dX0_coefficient_20 : decode cX0_coefficient 20 = .ok (.ireturn, 1) := dk_172 (dk_at dksX0_coefficient_0 20 rfl rfl)
theorem dX0_coefficient_21 : decode cX0_coefficient 21 = .ok (.iconst 0, 1) := dk_3 (dk_at dksX0_coefficient_0 21 rfl rfl)
theorem dX0_coefficient_22 : decode cX0_coefficient 22 = .ok (.ireturn, 1) := dk_172 (dk_at dksX0_coefficient_0 22 rfl rfl)
abbrev cX0_applied : ByteArray := method_16_code
def yX0_applied : MethodName := ⟨RX0, "applied", "(LExactChains;III[J)I"⟩
def dkwX0_applied_0 : List UInt8 := [25, 4, 3, 42, 27, 28, 29, 182, 0, 58, 133, 80, 167, 0, 7, 58, 5, 4, 172, 3, 172]
abbrev dktX0_applied_0 : List UInt8 := dkwX0_applied_0 ++ []
theorem dksX0_applied_0 : cX0_applied.data.toList.drop 0 = dktX0_applied_0 := by decide +kernel
theorem dX0_applied_0 : decode cX0_applied 0 = .ok (.aload 4, 2) := dk_25 4 (dk_at dksX0_applied_0 0 rfl rfl)
theorem dX0_applied_2 : decode cX0_applied 2 = .ok (.iconst 0, 1) := dk_3 (dk_at dksX0_applied_0 2 rfl rfl)
theorem dX0_applied_3 : decode cX0_applied 3 = .ok (.aload_n 0, 1) := dk_42 (dk_at dksX0_applied_0 3 rfl rfl)
theorem dX0_applied_4 : decode cX0_applied 4 = .ok (.iload_n 1, 1) := dk_27 (dk_at dksX0_applied_0 4 rfl rfl)
theorem dX0_applied_5 : decode cX0_applied 5 = .ok (.iload_n 2, 1) := dk_28 (dk_at dksX0_applied_0 5 rfl rfl)
theorem dX0_applied_6 : decode cX0_applied 6 = .ok (.iload_n 3, 1) := dk_29 (dk_at dksX0_applied_0 6 rfl rfl)
theorem dX0_applied_7 : decode cX0_applied 7 = .ok (.invokevirtual 58, 3) := dk_182 0 58 (dk_at dksX0_applied_0 7 rfl rfl)
theorem dX0_applied_10 : decode cX0_applied 10 = .ok (.i2l, 1) := dk_133 (dk_at dksX0_applied_0 10 rfl rfl)
theorem dX0_applied_11 : decode cX0_applied 11 = .ok (.lastore, 1) := dk_80 (dk_at dksX0_applied_0 11 rfl rfl)
theorem dX0_applied_12 : decode cX0_applied 12 = .ok (.goto 7, 3) := dk_167 0 7 (dk_at dksX0_applied_0 12 rfl rfl)
theorem dX0_applied_15 : decode cX0_applied 15 = .ok (.astore 5, 2) := dk_58 5 (dk_at dksX0_applied_0 15 rfl rfl)
theorem dX0_applied_17 : decode cX0_applied 17 = .ok (.iconst 1, 1) := dk_4 (dk_at dksX0_applied_0 17 rfl rfl)
theorem dX0_applied_18 : decode cX0_applied 18 = .ok (.ireturn, 1) := dk_172 (dk_at dksX0_applied_0 18 rfl rfl)
theorem dX0_applied_19 : decode cX0_applied 19 = .ok (.iconst 0, 1) := dk_3 (dk_at dksX0_applied_0 19 rfl rfl)
theorem dX0_applied_20 : decode cX0_applied 20 = .ok (.ireturn, 1) := dk_172 (dk_at dksX0_applied_0 20 rfl rfl)
abbrev cX0_ended : ByteArray := method_17_code
def yX0_ended : MethodName := ⟨RX0, "ended", "(LExactChains;I[J)I"⟩
def dkwX0_ended_0 : List UInt8 := [44, 3, 42, 27, 182, 0, 61, 133, 80, 167, 0, 6, 78, 4, 172, 3, 172]
abbrev dktX0_ended_0 : List UInt8 := dkwX0_ended_0 ++ []
theorem dksX0_ended_0 : cX0_ended.data.toList.drop 0 = dktX0_ended_0 := by decide +kernel
theorem dX0_ended_0 : decode cX0_ended 0 = .ok (.aload_n 2, 1) := dk_44 (dk_at dksX0_ended_0 0 rfl rfl)
theorem dX0_ended_1 : decode cX0_ended 1 = .ok (.iconst 0, 1) := dk_3 (dk_at dksX0_ended_0 1 rfl rfl)
theorem dX0_ended_2 : decode cX0_ended 2 = .ok (.aload_n 0, 1) := dk_42 (dk_at dksX0_ended_0 2 rfl rfl)
theorem dX0_ended_3 : decode cX0_ended 3 = .ok (.iload_n 1, 1) := dk_27 (dk_at dksX0_ended_0 3 rfl rfl)
theorem dX0_ended_4 : decode cX0_ended 4 = .ok (.invokevirtual 61, 3) := dk_182 0 61 (dk_at dksX0_ended_0 4 rfl rfl)
theorem dX0_ended_7 : decode cX0_ended 7 = .ok (.i2l, 1) := dk_133 (dk_at dksX0_ended_0 7 rfl rfl)
theorem dX0_ended_8 : decode cX0_ended 8 = .ok (.lastore, 1) := dk_80 (dk_at dksX0_ended_0 8 rfl rfl)
theorem dX0_ended_9 : decode cX0_ended 9 = .ok (.goto 6, 3) := dk_167 0 6 (dk_at dksX0_ended_0 9 rfl rfl)
theorem dX0_ended_12 : decode cX0_ended 12 = .ok (.astore_n 3, 1) := dk_78 (dk_at dksX0_ended_0 12 rfl rfl)
theorem dX0_ended_13 : decode cX0_ended 13 = .ok (.iconst 1, 1) := dk_4 (dk_at dksX0_ended_0 13 rfl rfl)
theorem dX0_ended_14 : decode cX0_ended 14 = .ok (.ireturn, 1) := dk_172 (dk_at dksX0_ended_0 14 rfl rfl)
theorem dX0_ended_15 : decode cX0_ended 15 = .ok (.iconst 0, 1) := dk_3 (dk_at dksX0_ended_0 15 rfl rfl)
theorem dX0_ended_16 : decode cX0_ended 16 = .ok (.ireturn, 1) := dk_172 (dk_at dksX0_ended_0 16 rfl rfl)
abbrev cX0_direction : ByteArray := method_18_code
def yX0_direction : MethodName := ⟨RX0, "direction", "(LExactChains;II[J)I"⟩
def dkwX0_direction_0 : List UInt8 := [45, 3, 42, 27, 28, 182, 0, 64, 133, 80, 167, 0, 7, 58, 4, 4, 172, 3, 172]
abbrev dktX0_direction_0 : List UInt8 := dkwX0_direction_0 ++ []
theorem dksX0_direction_0 : cX0_direction.data.toList.drop 0 = dktX0_direction_0 := by decide +kernel
theorem dX0_direction_0 : decode cX0_direction 0 = .ok (.aload_n 3, 1) := dk_45 (dk_at dksX0_direction_0 0 rfl rfl)
theorem dX0_direction_1 : decode cX0_direction 1 = .ok (.iconst 0, 1) := dk_3 (dk_at dksX0_direction_0 1 rfl rfl)
theorem dX0_direction_2 : decode cX0_direction 2 = .ok (.aload_n 0, 1) := dk_42 (dk_at dksX0_direction_0 2 rfl rfl)
theorem dX0_direction_3 : decode cX0_direction 3 = .ok (.iload_n 1, 1) := dk_27 (dk_at dksX0_direction_0 3 rfl rfl)
theorem dX0_direction_4 : decode cX0_direction 4 = .ok (.iload_n 2, 1) := dk_28 (dk_at dksX0_direction_0 4 rfl rfl)
theorem dX0_direction_5 : decode cX0_direction 5 = .ok (.invokevirtual 64, 3) := dk_182 0 64 (dk_at dksX0_direction_0 5 rfl rfl)
theorem dX0_direction_8 : decode cX0_direction 8 = .ok (.i2l, 1) := dk_133 (dk_at dksX0_direction_0 8 rfl rfl)
theorem dX0_direction_9 : decode cX0_direction 9 = .ok (.lastore, 1) := dk_80 (dk_at dksX0_direction_0 9 rfl rfl)
theorem dX0_direction_10 : decode cX0_direction 10 = .ok (.goto 7, 3) := dk_167 0 7 (dk_at dksX0_direction_0 10 rfl rfl)
theorem dX0_direction_13 : decode cX0_direction 13 = .ok (.astore 4, 2) := dk_58 4 (dk_at dksX0_direction_0 13 rfl rfl)
theorem dX0_direction_15 : decode cX0_direction 15 = .ok (.iconst 1, 1) := dk_4 (dk_at dksX0_direction_0 15 rfl rfl)
theorem dX0_direction_16 : decode cX0_direction 16 = .ok (.ireturn, 1) := dk_172 (dk_at dksX0_direction_0 16 rfl rfl)
theorem dX0_direction_17 : decode cX0_direction 17 = .ok (.iconst 0, 1) := dk_3 (dk_at dksX0_direction_0 17 rfl rfl)
theorem dX0_direction_18 : decode cX0_direction 18 = .ok (.ireturn, 1) := dk_172 (dk_at dksX0_direction_0 18 rfl rfl)
abbrev cX0_chainOf : ByteArray := method_19_code
def yX0_chainOf : MethodName := ⟨RX0, "chainOf", "(LExactChains;I[J)I"⟩
def dkwX0_chainOf_0 : List UInt8 := [44, 3, 42, 27, 182, 0, 67, 133, 80, 167, 0, 6, 78, 4, 172, 3, 172]
abbrev dktX0_chainOf_0 : List UInt8 := dkwX0_chainOf_0 ++ []
theorem dksX0_chainOf_0 : cX0_chainOf.data.toList.drop 0 = dktX0_chainOf_0 := by decide +kernel
theorem dX0_chainOf_0 : decode cX0_chainOf 0 = .ok (.aload_n 2, 1) := dk_44 (dk_at dksX0_chainOf_0 0 rfl rfl)
theorem dX0_chainOf_1 : decode cX0_chainOf 1 = .ok (.iconst 0, 1) := dk_3 (dk_at dksX0_chainOf_0 1 rfl rfl)
theorem dX0_chainOf_2 : decode cX0_chainOf 2 = .ok (.aload_n 0, 1) := dk_42 (dk_at dksX0_chainOf_0 2 rfl rfl)
theorem dX0_chainOf_3 : decode cX0_chainOf 3 = .ok (.iload_n 1, 1) := dk_27 (dk_at dksX0_chainOf_0 3 rfl rfl)
theorem dX0_chainOf_4 : decode cX0_chainOf 4 = .ok (.invokevirtual 67, 3) := dk_182 0 67 (dk_at dksX0_chainOf_0 4 rfl rfl)
theorem dX0_chainOf_7 : decode cX0_chainOf 7 = .ok (.i2l, 1) := dk_133 (dk_at dksX0_chainOf_0 7 rfl rfl)
theorem dX0_chainOf_8 : decode cX0_chainOf 8 = .ok (.lastore, 1) := dk_80 (dk_at dksX0_chainOf_0 8 rfl rfl)
theorem dX0_chainOf_9 : decode cX0_chainOf 9 = .ok (.goto 6, 3) := dk_167 0 6 (dk_at dksX0_chainOf_0 9 rfl rfl)
theorem dX0_chainOf_12 : decode cX0_chainOf 12 = .ok (.astore_n 3, 1) := dk_78 (dk_at dksX0_chainOf_0 12 rfl rfl)
theorem dX0_chainOf_13 : decode cX0_chainOf 13 = .ok (.iconst 1, 1) := dk_4 (dk_at dksX0_chainOf_0 13 rfl rfl)
theorem dX0_chainOf_14 : decode cX0_chainOf 14 = .ok (.ireturn, 1) := dk_172 (dk_at dksX0_chainOf_0 14 rfl rfl)
theorem dX0_chainOf_15 : decode cX0_chainOf 15 = .ok (.iconst 0, 1) := dk_3 (dk_at dksX0_chainOf_0 15 rfl rfl)
theorem dX0_chainOf_16 : decode cX0_chainOf 16 = .ok (.ireturn, 1) := dk_172 (dk_at dksX0_chainOf_0 16 rfl rfl)
abbrev cX0_product : ByteArray := method_20_code
def yX0_product : MethodName := ⟨RX0, "product", "(LExactChains;II[J)I"⟩
def dkwX0_product_0 : List UInt8 := [45, 3, 42, 27, 28, 182, 0, 70, 133, 80, 167, 0, 7, 58, 4, 4, 172, 3, 172]
abbrev dktX0_product_0 : List UInt8 := dkwX0_product_0 ++ []
theorem dksX0_product_0 : cX0_product.data.toList.drop 0 = dktX0_product_0 := by decide +kernel
theorem dX0_product_0 : decode cX0_product 0 = .ok (.aload_n 3, 1) := dk_45 (dk_at dksX0_product_0 0 rfl rfl)
theorem dX0_product_1 : decode cX0_product 1 = .ok (.iconst 0, 1) := dk_3 (dk_at dksX0_product_0 1 rfl rfl)
theorem dX0_product_2 : decode cX0_product 2 = .ok (.aload_n 0, 1) := dk_42 (dk_at dksX0_product_0 2 rfl rfl)
theorem dX0_product_3 : decode cX0_product 3 = .ok (.iload_n 1, 1) := dk_27 (dk_at dksX0_product_0 3 rfl rfl)
theorem dX0_product_4 : decode cX0_product 4 = .ok (.iload_n 2, 1) := dk_28 (dk_at dksX0_product_0 4 rfl rfl)
theorem dX0_product_5 : decode cX0_product 5 = .ok (.invokevirtual 70, 3) := dk_182 0 70 (dk_at dksX0_product_0 5 rfl rfl)
theorem dX0_product_8 : decode cX0_product 8 = .ok (.i2l, 1) := dk_133 (dk_at dksX0_product_0 8 rfl rfl)
theorem dX0_product_9 : decode cX0_product 9 = .ok (.lastore, 1) := dk_80 (dk_at dksX0_product_0 9 rfl rfl)
theorem dX0_product_10 : decode cX0_product 10 = .ok (.goto 7, 3) := dk_167 0 7 (dk_at dksX0_product_0 10 rfl rfl)
theorem dX0_product_13 : decode cX0_product 13 = .ok (.astore 4, 2) := dk_58 4 (dk_at dksX0_product_0 13 rfl rfl)
theorem dX0_product_15 : decode cX0_product 15 = .ok (.iconst 1, 1) := dk_4 (dk_at dksX0_product_0 15 rfl rfl)
theorem dX0_product_16 : decode cX0_product 16 = .ok (.ireturn, 1) := dk_172 (dk_at dksX0_product_0 16 rfl rfl)
theorem dX0_product_17 : decode cX0_product 17 = .ok (.iconst 0, 1) := dk_3 (dk_at dksX0_product_0 17 rfl rfl)
theorem dX0_product_18 : decode cX0_product 18 = .ok (.ireturn, 1) := dk_172 (dk_at dksX0_product_0 18 rfl rfl)
abbrev cX0_projected : ByteArray := method_21_code
def yX0_projected : MethodName := ⟨RX0, "projected", "(LExactChains;II[J)I"⟩
def dkwX0_projected_0 : List UInt8 := [45, 3, 42, 27, 28, 182, 0, 73, 133, 80, 167, 0, 7, 58, 4, 4, 172, 3, 172]
abbrev dktX0_projected_0 : List UInt8 := dkwX0_projected_0 ++ []
theorem dksX0_projected_0 : cX0_projected.data.toList.drop 0 = dktX0_projected_0 := by decide +kernel
theorem dX0_projected_0 : decode cX0_projected 0 = .ok (.aload_n 3, 1) := dk_45 (dk_at dksX0_projected_0 0 rfl rfl)
theorem dX0_projected_1 : decode cX0_projected 1 = .ok (.iconst 0, 1) := dk_3 (dk_at dksX0_projected_0 1 rfl rfl)
theorem dX0_projected_2 : decode cX0_projected 2 = .ok (.aload_n 0, 1) := dk_42 (dk_at dksX0_projected_0 2 rfl rfl)
theorem dX0_projected_3 : decode cX0_projected 3 = .ok (.iload_n 1, 1) := dk_27 (dk_at dksX0_projected_0 3 rfl rfl)
theorem dX0_projected_4 : decode cX0_projected 4 = .ok (.iload_n 2, 1) := dk_28 (dk_at dksX0_projected_0 4 rfl rfl)
theorem dX0_projected_5 : decode cX0_projected 5 = .ok (.invokevirtual 73, 3) := dk_182 0 73 (dk_at dksX0_projected_0 5 rfl rfl)
theorem dX0_projected_8 : decode cX0_projected 8 = .ok (.i2l, 1) := dk_133 (dk_at dksX0_projected_0 8 rfl rfl)
theorem dX0_projected_9 : decode cX0_projected 9 = .ok (.lastore, 1) := dk_80 (dk_at dksX0_projected_0 9 rfl rfl)
theorem dX0_projected_10 : decode cX0_projected 10 = .ok (.goto 7, 3) := dk_167 0 7 (dk_at dksX0_projected_0 10 rfl rfl)
theorem dX0_projected_13 : decode cX0_projected 13 = .ok (.astore 4, 2) := dk_58 4 (dk_at dksX0_projected_0 13 rfl rfl)
theorem dX0_projected_15 : decode cX0_projected 15 = .ok (.iconst 1, 1) := dk_4 (dk_at dksX0_projected_0 15 rfl rfl)
theorem dX0_projected_16 : decode cX0_projected 16 = .ok (.ireturn, 1) := dk_172 (dk_at dksX0_projected_0 16 rfl rfl)
theorem dX0_projected_17 : decode cX0_projected 17 = .ok (.iconst 0, 1) := dk_3 (dk_at dksX0_projected_0 17 rfl rfl)
theorem dX0_projected_18 : decode cX0_projected 18 = .ok (.ireturn, 1) := dk_172 (dk_at dksX0_projected_0 18 rfl rfl)
abbrev cX0_determinantAt : ByteArray := method_22_code
def yX0_determinantAt : MethodName := ⟨RX0, "determinantAt", "(LExactChains;I[J)I"⟩
def dkwX0_determinantAt_0 : List UInt8 := [44, 3, 42, 27, 182, 0, 76, 133, 80, 167, 0, 6, 78, 4, 172, 3, 172]
abbrev dktX0_determinantAt_0 : List UInt8 := dkwX0_determinantAt_0 ++ []
theorem dksX0_determinantAt_0 : cX0_determinantAt.data.toList.drop 0 = dktX0_determinantAt_0 := by decide +kernel
theorem dX0_determinantAt_0 : decode cX0_determinantAt 0 = .ok (.aload_n 2, 1) := dk_44 (dk_at dksX0_determinantAt_0 0 rfl rfl)
theorem dX0_determinantAt_1 : decode cX0_determinantAt 1 = .ok (.iconst 0, 1) := dk_3 (dk_at dksX0_determinantAt_0 1 rfl rfl)
theorem dX0_determinantAt_2 : decode cX0_determinantAt 2 = .ok (.aload_n 0, 1) := dk_42 (dk_at dksX0_determinantAt_0 2 rfl rfl)
theorem dX0_determinantAt_3 : decode cX0_determinantAt 3 = .ok (.iload_n 1, 1) := dk_27 (dk_at dksX0_determinantAt_0 3 rfl rfl)
theorem dX0_determinantAt_4 : decode cX0_determinantAt 4 = .ok (.invokevirtual 76, 3) := dk_182 0 76 (dk_at dksX0_determinantAt_0 4 rfl rfl)
theorem dX0_determinantAt_7 : decode cX0_determinantAt 7 = .ok (.i2l, 1) := dk_133 (dk_at dksX0_determinantAt_0 7 rfl rfl)
theorem dX0_determinantAt_8 : decode cX0_determinantAt 8 = .ok (.lastore, 1) := dk_80 (dk_at dksX0_determinantAt_0 8 rfl rfl)
theorem dX0_determinantAt_9 : decode cX0_determinantAt 9 = .ok (.goto 6, 3) := dk_167 0 6 (dk_at dksX0_determinantAt_0 9 rfl rfl)
theorem dX0_determinantAt_12 : decode cX0_determinantAt 12 = .ok (.astore_n 3, 1) := dk_78 (dk_at dksX0_determinantAt_0 12 rfl rfl)
theorem dX0_determinantAt_13 : decode cX0_determinantAt 13 = .ok (.iconst 1, 1) := dk_4 (dk_at dksX0_determinantAt_0 13 rfl rfl)
theorem dX0_determinantAt_14 : decode cX0_determinantAt 14 = .ok (.ireturn, 1) := dk_172 (dk_at dksX0_determinantAt_0 14 rfl rfl)
theorem dX0_determinantAt_15 : decode cX0_determinantAt 15 = .ok (.iconst 0, 1) := dk_3 (dk_at dksX0_determinantAt_0 15 rfl rfl)
theorem dX0_determinantAt_16 : decode cX0_determinantAt 16 = .ok (.ireturn, 1) := dk_172 (dk_at dksX0_determinantAt_0 16 rfl rfl)
abbrev cX0_dimension : ByteArray := method_23_code
def yX0_dimension : MethodName := ⟨RX0, "dimension", "(LExactChains;I[J)I"⟩
def dkwX0_dimension_0 : List UInt8 := [44, 3, 42, 27, 182, 0, 79, 133, 80, 167, 0, 6, 78, 4, 172, 3, 172]
abbrev dktX0_dimension_0 : List UInt8 := dkwX0_dimension_0 ++ []
theorem dksX0_dimension_0 : cX0_dimension.data.toList.drop 0 = dktX0_dimension_0 := by decide +kernel
theorem dX0_dimension_0 : decode cX0_dimension 0 = .ok (.aload_n 2, 1) := dk_44 (dk_at dksX0_dimension_0 0 rfl rfl)
theorem dX0_dimension_1 : decode cX0_dimension 1 = .ok (.iconst 0, 1) := dk_3 (dk_at dksX0_dimension_0 1 rfl rfl)
theorem dX0_dimension_2 : decode cX0_dimension 2 = .ok (.aload_n 0, 1) := dk_42 (dk_at dksX0_dimension_0 2 rfl rfl)
theorem dX0_dimension_3 : decode cX0_dimension 3 = .ok (.iload_n 1, 1) := dk_27 (dk_at dksX0_dimension_0 3 rfl rfl)
theorem dX0_dimension_4 : decode cX0_dimension 4 = .ok (.invokevirtual 79, 3) := dk_182 0 79 (dk_at dksX0_dimension_0 4 rfl rfl)
theorem dX0_dimension_7 : decode cX0_dimension 7 = .ok (.i2l, 1) := dk_133 (dk_at dksX0_dimension_0 7 rfl rfl)
theorem dX0_dimension_8 : decode cX0_dimension 8 = .ok (.lastore, 1) := dk_80 (dk_at dksX0_dimension_0 8 rfl rfl)
theorem dX0_dimension_9 : decode cX0_dimension 9 = .ok (.goto 6, 3) := dk_167 0 6 (dk_at dksX0_dimension_0 9 rfl rfl)
theorem dX0_dimension_12 : decode cX0_dimension 12 = .ok (.astore_n 3, 1) := dk_78 (dk_at dksX0_dimension_0 12 rfl rfl)
theorem dX0_dimension_13 : decode cX0_dimension 13 = .ok (.iconst 1, 1) := dk_4 (dk_at dksX0_dimension_0 13 rfl rfl)
theorem dX0_dimension_14 : decode cX0_dimension 14 = .ok (.ireturn, 1) := dk_172 (dk_at dksX0_dimension_0 14 rfl rfl)
theorem dX0_dimension_15 : decode cX0_dimension 15 = .ok (.iconst 0, 1) := dk_3 (dk_at dksX0_dimension_0 15 rfl rfl)
theorem dX0_dimension_16 : decode cX0_dimension 16 = .ok (.ireturn, 1) := dk_172 (dk_at dksX0_dimension_0 16 rfl rfl)
abbrev cX0_reachOf : ByteArray := method_24_code
def yX0_reachOf : MethodName := ⟨RX0, "reachOf", "(LExactChains;I[J)I"⟩
def dkwX0_reachOf_0 : List UInt8 := [44, 3, 42, 27, 182, 0, 82, 133, 80, 167, 0, 6, 78, 4, 172, 3, 172]
abbrev dktX0_reachOf_0 : List UInt8 := dkwX0_reachOf_0 ++ []
theorem dksX0_reachOf_0 : cX0_reachOf.data.toList.drop 0 = dktX0_reachOf_0 := by decide +kernel
theorem dX0_reachOf_0 : decode cX0_reachOf 0 = .ok (.aload_n 2, 1) := dk_44 (dk_at dksX0_reachOf_0 0 rfl rfl)
theorem dX0_reachOf_1 : decode cX0_reachOf 1 = .ok (.iconst 0, 1) := dk_3 (dk_at dksX0_reachOf_0 1 rfl rfl)
theorem dX0_reachOf_2 : decode cX0_reachOf 2 = .ok (.aload_n 0, 1) := dk_42 (dk_at dksX0_reachOf_0 2 rfl rfl)
theorem dX0_reachOf_3 : decode cX0_reachOf 3 = .ok (.iload_n 1, 1) := dk_27 (dk_at dksX0_reachOf_0 3 rfl rfl)
theorem dX0_reachOf_4 : decode cX0_reachOf 4 = .ok (.invokevirtual 82, 3) := dk_182 0 82 (dk_at dksX0_reachOf_0 4 rfl rfl)
theorem dX0_reachOf_7 : decode cX0_reachOf 7 = .ok (.i2l, 1) := dk_133 (dk_at dksX0_reachOf_0 7 rfl rfl)
theorem dX0_reachOf_8 : decode cX0_reachOf 8 = .ok (.lastore, 1) := dk_80 (dk_at dksX0_reachOf_0 8 rfl rfl)
theorem dX0_reachOf_9 : decode cX0_reachOf 9 = .ok (.goto 6, 3) := dk_167 0 6 (dk_at dksX0_reachOf_0 9 rfl rfl)
theorem dX0_reachOf_12 : decode cX0_reachOf 12 = .ok (.astore_n 3, 1) := dk_78 (dk_at dksX0_reachOf_0 12 rfl rfl)
theorem dX0_reachOf_13 : decode cX0_reachOf 13 = .ok (.iconst 1, 1) := dk_4 (dk_at dksX0_reachOf_0 13 rfl rfl)
theorem dX0_reachOf_14 : decode cX0_reachOf 14 = .ok (.ireturn, 1) := dk_172 (dk_at dksX0_reachOf_0 14 rfl rfl)
theorem dX0_reachOf_15 : decode cX0_reachOf 15 = .ok (.iconst 0, 1) := dk_3 (dk_at dksX0_reachOf_0 15 rfl rfl)
theorem dX0_reachOf_16 : decode cX0_reachOf 16 = .ok (.ireturn, 1) := dk_172 (dk_at dksX0_reachOf_0 16 rfl rfl)
abbrev cX0_solution : ByteArray := method_25_code
def yX0_solution : MethodName := ⟨RX0, "solution", "(LExactChains;I[J)I"⟩
def dkwX0_solution_0 : List UInt8 := [44, 3, 42, 27, 182, 0, 85, 133, 80, 167, 0, 12, 78, 4, 172, 78, 5, 172, 78, 6, 172, 3, 172]
abbrev dktX0_solution_0 : List UInt8 := dkwX0_solution_0 ++ []
theorem dksX0_solution_0 : cX0_solution.data.toList.drop 0 = dktX0_solution_0 := by decide +kernel
theorem dX0_solution_0 : decode cX0_solution 0 = .ok (.aload_n 2, 1) := dk_44 (dk_at dksX0_solution_0 0 rfl rfl)
theorem dX0_solution_1 : decode cX0_solution 1 = .ok (.iconst 0, 1) := dk_3 (dk_at dksX0_solution_0 1 rfl rfl)
theorem dX0_solution_2 : decode cX0_solution 2 = .ok (.aload_n 0, 1) := dk_42 (dk_at dksX0_solution_0 2 rfl rfl)
theorem dX0_solution_3 : decode cX0_solution 3 = .ok (.iload_n 1, 1) := dk_27 (dk_at dksX0_solution_0 3 rfl rfl)
theorem dX0_solution_4 : decode cX0_solution 4 = .ok (.invokevirtual 85, 3) := dk_182 0 85 (dk_at dksX0_solution_0 4 rfl rfl)
theorem dX0_solution_7 : decode cX0_solution 7 = .ok (.i2l, 1) := dk_133 (dk_at dksX0_solution_0 7 rfl rfl)
theorem dX0_solution_8 : decode cX0_solution 8 = .ok (.lastore, 1) := dk_80 (dk_at dksX0_solution_0 8 rfl rfl)
theorem dX0_solution_9 : decode cX0_solution 9 = .ok (.goto 12, 3) := dk_167 0 12 (dk_at dksX0_solution_0 9 rfl rfl)
theorem dX0_solution_12 : decode cX0_solution 12 = .ok (.astore_n 3, 1) := dk_78 (dk_at dksX0_solution_0 12 rfl rfl)
theorem dX0_solution_13 : decode cX0_solution 13 = .ok (.iconst 1, 1) := dk_4 (dk_at dksX0_solution_0 13 rfl rfl)
theorem dX0_solution_14 : decode cX0_solution 14 = .ok (.ireturn, 1) := dk_172 (dk_at dksX0_solution_0 14 rfl rfl)
theorem dX0_solution_15 : decode cX0_solution 15 = .ok (.astore_n 3, 1) := dk_78 (dk_at dksX0_solution_0 15 rfl rfl)
theorem dX0_solution_16 : decode cX0_solution 16 = .ok (.iconst 2, 1) := dk_5 (dk_at dksX0_solution_0 16 rfl rfl)
theorem dX0_solution_17 : decode cX0_solution 17 = .ok (.ireturn, 1) := dk_172 (dk_at dksX0_solution_0 17 rfl rfl)
theorem dX0_solution_18 : decode cX0_solution 18 = .ok (.astore_n 3, 1) := dk_78 (dk_at dksX0_solution_0 18 rfl rfl)
theorem dX0_solution_19 : decode cX0_solution 19 = .ok (.iconst 3, 1) := dk_6 (dk_at dksX0_solution_0 19 rfl rfl)
theorem dX0_solution_20 : decode cX0_solution 20 = .ok (.ireturn, 1) := dk_172 (dk_at dksX0_solution_0 20 rfl rfl)
theorem dX0_solution_21 : decode cX0_solution 21 = .ok (.iconst 0, 1) := dk_3 (dk_at dksX0_solution_0 21 rfl rfl)
theorem dX0_solution_22 : decode cX0_solution 22 = .ok (.ireturn, 1) := dk_172 (dk_at dksX0_solution_0 22 rfl rfl)
abbrev cX0_remainder : ByteArray := method_26_code
def yX0_remainder : MethodName := ⟨RX0, "remainder", "(LExactChains;II[J)I"⟩
def dkwX0_remainder_0 : List UInt8 := [45, 3, 42, 27, 28, 182, 0, 90, 133, 80, 167, 0, 7, 58, 4, 4, 172, 3, 172]
abbrev dktX0_remainder_0 : List UInt8 := dkwX0_remainder_0 ++ []
theorem dksX0_remainder_0 : cX0_remainder.data.toList.drop 0 = dktX0_remainder_0 := by decide +kernel
theorem dX0_remainder_0 : decode cX0_remainder 0 = .ok (.aload_n 3, 1) := dk_45 (dk_at dksX0_remainder_0 0 rfl rfl)
theorem dX0_remainder_1 : decode cX0_remainder 1 = .ok (.iconst 0, 1) := dk_3 (dk_at dksX0_remainder_0 1 rfl rfl)
theorem dX0_remainder_2 : decode cX0_remainder 2 = .ok (.aload_n 0, 1) := dk_42 (dk_at dksX0_remainder_0 2 rfl rfl)
theorem dX0_remainder_3 : decode cX0_remainder 3 = .ok (.iload_n 1, 1) := dk_27 (dk_at dksX0_remainder_0 3 rfl rfl)
theorem dX0_remainder_4 : decode cX0_remainder 4 = .ok (.iload_n 2, 1) := dk_28 (dk_at dksX0_remainder_0 4 rfl rfl)
theorem dX0_remainder_5 : decode cX0_remainder 5 = .ok (.invokevirtual 90, 3) := dk_182 0 90 (dk_at dksX0_remainder_0 5 rfl rfl)
theorem dX0_remainder_8 : decode cX0_remainder 8 = .ok (.i2l, 1) := dk_133 (dk_at dksX0_remainder_0 8 rfl rfl)
theorem dX0_remainder_9 : decode cX0_remainder 9 = .ok (.lastore, 1) := dk_80 (dk_at dksX0_remainder_0 9 rfl rfl)
theorem dX0_remainder_10 : decode cX0_remainder 10 = .ok (.goto 7, 3) := dk_167 0 7 (dk_at dksX0_remainder_0 10 rfl rfl)
theorem dX0_remainder_13 : decode cX0_remainder 13 = .ok (.astore 4, 2) := dk_58 4 (dk_at dksX0_remainder_0 13 rfl rfl)
theorem dX0_remainder_15 : decode cX0_remainder 15 = .ok (.iconst 1, 1) := dk_4 (dk_at dksX0_remainder_0 15 rfl rfl)
theorem dX0_remainder_16 : decode cX0_remainder 16 = .ok (.ireturn, 1) := dk_172 (dk_at dksX0_remainder_0 16 rfl rfl)
theorem dX0_remainder_17 : decode cX0_remainder 17 = .ok (.iconst 0, 1) := dk_3 (dk_at dksX0_remainder_0 17 rfl rfl)
theorem dX0_remainder_18 : decode cX0_remainder 18 = .ok (.ireturn, 1) := dk_172 (dk_at dksX0_remainder_0 18 rfl rfl)
abbrev cX0_writtenByte : ByteArray := method_27_code
def yX0_writtenByte : MethodName := ⟨RX0, "writtenByte", "(LExactChains;I[J)I"⟩
def dkwX0_writtenByte_0 : List UInt8 := [44, 3, 42, 27, 182, 0, 93, 133, 80, 167, 0, 6, 78, 4, 172, 3, 172]
abbrev dktX0_writtenByte_0 : List UInt8 := dkwX0_writtenByte_0 ++ []
theorem dksX0_writtenByte_0 : cX0_writtenByte.data.toList.drop 0 = dktX0_writtenByte_0 := by decide +kernel
theorem dX0_writtenByte_0 : decode cX0_writtenByte 0 = .ok (.aload_n 2, 1) := dk_44 (dk_at dksX0_writtenByte_0 0 rfl rfl)
theorem dX0_writtenByte_1 : decode cX0_writtenByte 1 = .ok (.iconst 0, 1) := dk_3 (dk_at dksX0_writtenByte_0 1 rfl rfl)
theorem dX0_writtenByte_2 : decode cX0_writtenByte 2 = .ok (.aload_n 0, 1) := dk_42 (dk_at dksX0_writtenByte_0 2 rfl rfl)
theorem dX0_writtenByte_3 : decode cX0_writtenByte 3 = .ok (.iload_n 1, 1) := dk_27 (dk_at dksX0_writtenByte_0 3 rfl rfl)
theorem dX0_writtenByte_4 : decode cX0_writtenByte 4 = .ok (.invokevirtual 93, 3) := dk_182 0 93 (dk_at dksX0_writtenByte_0 4 rfl rfl)
theorem dX0_writtenByte_7 : decode cX0_writtenByte 7 = .ok (.i2l, 1) := dk_133 (dk_at dksX0_writtenByte_0 7 rfl rfl)
theorem dX0_writtenByte_8 : decode cX0_writtenByte 8 = .ok (.lastore, 1) := dk_80 (dk_at dksX0_writtenByte_0 8 rfl rfl)
theorem dX0_writtenByte_9 : decode cX0_writtenByte 9 = .ok (.goto 6, 3) := dk_167 0 6 (dk_at dksX0_writtenByte_0 9 rfl rfl)
theorem dX0_writtenByte_12 : decode cX0_writtenByte 12 = .ok (.astore_n 3, 1) := dk_78 (dk_at dksX0_writtenByte_0 12 rfl rfl)
theorem dX0_writtenByte_13 : decode cX0_writtenByte 13 = .ok (.iconst 1, 1) := dk_4 (dk_at dksX0_writtenByte_0 13 rfl rfl)
theorem dX0_writtenByte_14 : decode cX0_writtenByte 14 = .ok (.ireturn, 1) := dk_172 (dk_at dksX0_writtenByte_0 14 rfl rfl)
theorem dX0_writtenByte_15 : decode cX0_writtenByte 15 = .ok (.iconst 0, 1) := dk_3 (dk_at dksX0_writtenByte_0 15 rfl rfl)
theorem dX0_writtenByte_16 : decode cX0_writtenByte 16 = .ok (.ireturn, 1) := dk_172 (dk_at dksX0_writtenByte_0 16 rfl rfl)
abbrev cX0_undo : ByteArray := method_28_code
def yX0_undo : MethodName := ⟨RX0, "undo", "(LExactChains;[J)I"⟩
def dkwX0_undo_0 : List UInt8 := [43, 3, 42, 182, 0, 96, 133, 80, 167, 0, 6, 77, 4, 172, 3, 172]
abbrev dktX0_undo_0 : List UInt8 := dkwX0_undo_0 ++ []
theorem dksX0_undo_0 : cX0_undo.data.toList.drop 0 = dktX0_undo_0 := by decide +kernel
theorem dX0_undo_0 : decode cX0_undo 0 = .ok (.aload_n 1, 1) := dk_43 (dk_at dksX0_undo_0 0 rfl rfl)
theorem dX0_undo_1 : decode cX0_undo 1 = .ok (.iconst 0, 1) := dk_3 (dk_at dksX0_undo_0 1 rfl rfl)
theorem dX0_undo_2 : decode cX0_undo 2 = .ok (.aload_n 0, 1) := dk_42 (dk_at dksX0_undo_0 2 rfl rfl)
theorem dX0_undo_3 : decode cX0_undo 3 = .ok (.invokevirtual 96, 3) := dk_182 0 96 (dk_at dksX0_undo_0 3 rfl rfl)
theorem dX0_undo_6 : decode cX0_undo 6 = .ok (.i2l, 1) := dk_133 (dk_at dksX0_undo_0 6 rfl rfl)
theorem dX0_undo_7 : decode cX0_undo 7 = .ok (.lastore, 1) := dk_80 (dk_at dksX0_undo_0 7 rfl rfl)
theorem dX0_undo_8 : decode cX0_undo 8 = .ok (.goto 6, 3) := dk_167 0 6 (dk_at dksX0_undo_0 8 rfl rfl)
theorem dX0_undo_11 : decode cX0_undo 11 = .ok (.astore_n 2, 1) := dk_77 (dk_at dksX0_undo_0 11 rfl rfl)
theorem dX0_undo_12 : decode cX0_undo 12 = .ok (.iconst 1, 1) := dk_4 (dk_at dksX0_undo_0 12 rfl rfl)
theorem dX0_undo_13 : decode cX0_undo 13 = .ok (.ireturn, 1) := dk_172 (dk_at dksX0_undo_0 13 rfl rfl)
theorem dX0_undo_14 : decode cX0_undo 14 = .ok (.iconst 0, 1) := dk_3 (dk_at dksX0_undo_0 14 rfl rfl)
theorem dX0_undo_15 : decode cX0_undo 15 = .ok (.ireturn, 1) := dk_172 (dk_at dksX0_undo_0 15 rfl rfl)
abbrev cX0_save : ByteArray := method_29_code
def yX0_save : MethodName := ⟨RX0, "save", "(LExactChains;I[J)I"⟩
def dkwX0_save_0 : List UInt8 := [44, 3, 42, 27, 182, 0, 100, 133, 80, 167, 0, 6, 78, 4, 172, 3, 172]
abbrev dktX0_save_0 : List UInt8 := dkwX0_save_0 ++ []
theorem dksX0_save_0 : cX0_save.data.toList.drop 0 = dktX0_save_0 := by decide +kernel
theorem dX0_save_0 : decode cX0_save 0 = .ok (.aload_n 2, 1) := dk_44 (dk_at dksX0_save_0 0 rfl rfl)
theorem dX0_save_1 : decode cX0_save 1 = .ok (.iconst 0, 1) := dk_3 (dk_at dksX0_save_0 1 rfl rfl)
theorem dX0_save_2 : decode cX0_save 2 = .ok (.aload_n 0, 1) := dk_42 (dk_at dksX0_save_0 2 rfl rfl)
theorem dX0_save_3 : decode cX0_save 3 = .ok (.iload_n 1, 1) := dk_27 (dk_at dksX0_save_0 3 rfl rfl)
theorem dX0_save_4 : decode cX0_save 4 = .ok (.invokevirtual 100, 3) := dk_182 0 100 (dk_at dksX0_save_0 4 rfl rfl)
theorem dX0_save_7 : decode cX0_save 7 = .ok (.i2l, 1) := dk_133 (dk_at dksX0_save_0 7 rfl rfl)
theorem dX0_save_8 : decode cX0_save 8 = .ok (.lastore, 1) := dk_80 (dk_at dksX0_save_0 8 rfl rfl)
theorem dX0_save_9 : decode cX0_save 9 = .ok (.goto 6, 3) := dk_167 0 6 (dk_at dksX0_save_0 9 rfl rfl)
theorem dX0_save_12 : decode cX0_save 12 = .ok (.astore_n 3, 1) := dk_78 (dk_at dksX0_save_0 12 rfl rfl)
theorem dX0_save_13 : decode cX0_save 13 = .ok (.iconst 1, 1) := dk_4 (dk_at dksX0_save_0 13 rfl rfl)
theorem dX0_save_14 : decode cX0_save 14 = .ok (.ireturn, 1) := dk_172 (dk_at dksX0_save_0 14 rfl rfl)
theorem dX0_save_15 : decode cX0_save 15 = .ok (.iconst 0, 1) := dk_3 (dk_at dksX0_save_0 15 rfl rfl)
theorem dX0_save_16 : decode cX0_save 16 = .ok (.ireturn, 1) := dk_172 (dk_at dksX0_save_0 16 rfl rfl)
abbrev cX0_restore : ByteArray := method_30_code
def yX0_restore : MethodName := ⟨RX0, "restore", "(LExactChains;I[J)I"⟩
def dkwX0_restore_0 : List UInt8 := [44, 3, 42, 27, 182, 0, 103, 133, 80, 167, 0, 9, 78, 4, 172, 78, 5, 172, 3, 172]
abbrev dktX0_restore_0 : List UInt8 := dkwX0_restore_0 ++ []
theorem dksX0_restore_0 : cX0_restore.data.toList.drop 0 = dktX0_restore_0 := by decide +kernel
theorem dX0_restore_0 : decode cX0_restore 0 = .ok (.aload_n 2, 1) := dk_44 (dk_at dksX0_restore_0 0 rfl rfl)
theorem dX0_restore_1 : decode cX0_restore 1 = .ok (.iconst 0, 1) := dk_3 (dk_at dksX0_restore_0 1 rfl rfl)
theorem dX0_restore_2 : decode cX0_restore 2 = .ok (.aload_n 0, 1) := dk_42 (dk_at dksX0_restore_0 2 rfl rfl)
theorem dX0_restore_3 : decode cX0_restore 3 = .ok (.iload_n 1, 1) := dk_27 (dk_at dksX0_restore_0 3 rfl rfl)
theorem dX0_restore_4 : decode cX0_restore 4 = .ok (.invokevirtual 103, 3) := dk_182 0 103 (dk_at dksX0_restore_0 4 rfl rfl)
theorem dX0_restore_7 : decode cX0_restore 7 = .ok (.i2l, 1) := dk_133 (dk_at dksX0_restore_0 7 rfl rfl)
theorem dX0_restore_8 : decode cX0_restore 8 = .ok (.lastore, 1) := dk_80 (dk_at dksX0_restore_0 8 rfl rfl)
theorem dX0_restore_9 : decode cX0_restore 9 = .ok (.goto 9, 3) := dk_167 0 9 (dk_at dksX0_restore_0 9 rfl rfl)
theorem dX0_restore_12 : decode cX0_restore 12 = .ok (.astore_n 3, 1) := dk_78 (dk_at dksX0_restore_0 12 rfl rfl)
theorem dX0_restore_13 : decode cX0_restore 13 = .ok (.iconst 1, 1) := dk_4 (dk_at dksX0_restore_0 13 rfl rfl)
theorem dX0_restore_14 : decode cX0_restore 14 = .ok (.ireturn, 1) := dk_172 (dk_at dksX0_restore_0 14 rfl rfl)
theorem dX0_restore_15 : decode cX0_restore 15 = .ok (.astore_n 3, 1) := dk_78 (dk_at dksX0_restore_0 15 rfl rfl)
theorem dX0_restore_16 : decode cX0_restore 16 = .ok (.iconst 2, 1) := dk_5 (dk_at dksX0_restore_0 16 rfl rfl)
theorem dX0_restore_17 : decode cX0_restore 17 = .ok (.ireturn, 1) := dk_172 (dk_at dksX0_restore_0 17 rfl rfl)
theorem dX0_restore_18 : decode cX0_restore 18 = .ok (.iconst 0, 1) := dk_3 (dk_at dksX0_restore_0 18 rfl rfl)
theorem dX0_restore_19 : decode cX0_restore 19 = .ok (.ireturn, 1) := dk_172 (dk_at dksX0_restore_0 19 rfl rfl)
theorem q100 : (Jvm.Cond.initialized "ExactChainsLaw") ∈ lw_all := lw_g (lw_at lw_m1 0 rfl) rfl
theorem q143 : (Jvm.Cond.classLink "ExactChainsLaw" (8 : Nat) "ExactChains") ∈ lw_all := lw_g (lw_at lw_m1 43 rfl) rfl
theorem q145 : (Jvm.Cond.methodLink "ExactChainsLaw" (106 : Nat) ({ cls := "ExactChains", name := "<init>", desc := "()V" } : Jvm.MethodName)) ∈ lw_all := lw_g (lw_at lw_m1 45 rfl) rfl
theorem q658 : (Jvm.Cond.methodLink "ExactChainsLaw" (123 : Nat) ({ cls := "ExactChains", name := "errorPosition", desc := "()I" } : Jvm.MethodName)) ∈ lw_all := lw_g (lw_at lw_m3 78 rfl) rfl
theorem q662 : (Jvm.Cond.methodLink "ExactChainsLaw" (150 : Nat) ({ cls := "ExactChains", name := "setFull", desc := "(Z)Z" } : Jvm.MethodName)) ∈ lw_all := lw_g (lw_at lw_m3 82 rfl) rfl
theorem q847 : (Jvm.Cond.methodLink "ExactChainsLaw" (155 : Nat) ({ cls := "ExactChains", name := "step", desc := "()I" } : Jvm.MethodName)) ∈ lw_all := lw_g (lw_at lw_m4 27 rfl) rfl
theorem q1063 : (Jvm.Cond.methodLink "ExactChainsLaw" (162 : Nat) ({ cls := "ExactChains", name := "reset", desc := "()I" } : Jvm.MethodName)) ∈ lw_all := lw_g (lw_at lw_m5 3 rfl) rfl
theorem q1069 : (Jvm.Cond.methodLink "ExactChainsLaw" (190 : Nat) ({ cls := "ExactChains", name := "skew", desc := "()I" } : Jvm.MethodName)) ∈ lw_all := lw_g (lw_at lw_m5 9 rfl) rfl
theorem q1079 : (Jvm.Cond.methodLink "ExactChainsLaw" (194 : Nat) ({ cls := "ExactChains", name := "rank", desc := "()I" } : Jvm.MethodName)) ∈ lw_all := lw_g (lw_at lw_m5 19 rfl) rfl
theorem q1126 : (Jvm.Cond.methodLink "ExactChainsLaw" (201 : Nat) ({ cls := "ExactChains", name := "width", desc := "()I" } : Jvm.MethodName)) ∈ lw_all := lw_g (lw_at lw_m5 66 rfl) rfl
theorem q1158 : (Jvm.Cond.methodLink "ExactChainsLaw" (205 : Nat) ({ cls := "ExactChains", name := "determinant", desc := "()I" } : Jvm.MethodName)) ∈ lw_all := lw_g (lw_at lw_m5 98 rfl) rfl
theorem q1164 : (Jvm.Cond.methodLink "ExactChainsLaw" (209 : Nat) ({ cls := "ExactChains", name := "filled", desc := "()F" } : Jvm.MethodName)) ∈ lw_all := lw_g (lw_at lw_m5 104 rfl) rfl
theorem q1168 : (Jvm.Cond.methodLink "ExactChainsLaw" (220 : Nat) ({ cls := "ExactChains", name := "eigenvalues", desc := "()I" } : Jvm.MethodName)) ∈ lw_all := lw_g (lw_at lw_m5 108 rfl) rfl
theorem q1187 : (Jvm.Cond.methodLink "ExactChainsLaw" (224 : Nat) ({ cls := "ExactChains", name := "isSplit", desc := "()Z" } : Jvm.MethodName)) ∈ lw_all := lw_g (lw_at lw_m5 127 rfl) rfl
theorem q1195 : (Jvm.Cond.methodLink "ExactChainsLaw" (229 : Nat) ({ cls := "ExactChains", name := "reach", desc := "()I" } : Jvm.MethodName)) ∈ lw_all := lw_g (lw_at lw_m5 135 rfl) rfl
theorem q1203 : (Jvm.Cond.methodLink "ExactChainsLaw" (242 : Nat) ({ cls := "ExactChains", name := "writeChains", desc := "()I" } : Jvm.MethodName)) ∈ lw_all := lw_g (lw_at lw_m5 143 rfl) rfl
theorem q1318 : (Jvm.Cond.methodLink "ExactChainsLaw" (110 : Nat) ({ cls := "ExactChainsLaw", name := "append", desc := "(LExactChains;IIIII[J)I" } : Jvm.MethodName)) ∈ lw_all := lw_g (lw_at lw_m6 18 rfl) rfl
theorem q1319 : (Jvm.Cond.static ({ cls := "ExactChainsLaw", name := "append", desc := "(LExactChains;IIIII[J)I" } : Jvm.MethodName)) ∈ lw_all := lw_g (lw_at lw_m6 19 rfl) rfl
theorem q1320 : (Jvm.Cond.codeWith ({ cls := "ExactChainsLaw", name := "append", desc := "(LExactChains;IIIII[J)I" } : Jvm.MethodName) method_3_code (8 : Nat) (Option.some Jvm.ClassFile.FieldType.int) [((0 : Nat), (16 : Nat), (19 : Nat), (13 : Nat))]) ∈ lw_all := lw_g (lw_at lw_m6 20 rfl) rfl
theorem q1321 : (Jvm.Cond.classLink "ExactChainsLaw" (13 : Nat) "java/lang/IllegalStateException") ∈ lw_all := lw_g (lw_at lw_m6 21 rfl) rfl
theorem q1322 : (Jvm.Cond.methodLink "ExactChainsLaw" (7 : Nat) ({ cls := "ExactChains", name := "append", desc := "(IIIII)I" } : Jvm.MethodName)) ∈ lw_all := lw_g (lw_at lw_m6 22 rfl) rfl
theorem q1338 : (Jvm.Cond.methodLink "ExactChainsLaw" (119 : Nat) ({ cls := "ExactChainsLaw", name := "load", desc := "(LExactChains;I[J)I" } : Jvm.MethodName)) ∈ lw_all := lw_g (lw_at lw_m6 38 rfl) rfl
theorem q1339 : (Jvm.Cond.static ({ cls := "ExactChainsLaw", name := "load", desc := "(LExactChains;I[J)I" } : Jvm.MethodName)) ∈ lw_all := lw_g (lw_at lw_m6 39 rfl) rfl
theorem q1340 : (Jvm.Cond.codeWith ({ cls := "ExactChainsLaw", name := "load", desc := "(LExactChains;I[J)I" } : Jvm.MethodName) method_4_code (4 : Nat) (Option.some Jvm.ClassFile.FieldType.int) [((0 : Nat), (9 : Nat), (12 : Nat), (19 : Nat))]) ∈ lw_all := lw_g (lw_at lw_m6 40 rfl) rfl
theorem q1341 : (Jvm.Cond.classLink "ExactChainsLaw" (19 : Nat) "java/lang/IllegalArgumentException") ∈ lw_all := lw_g (lw_at lw_m6 41 rfl) rfl
theorem q1342 : (Jvm.Cond.methodLink "ExactChainsLaw" (15 : Nat) ({ cls := "ExactChains", name := "load", desc := "(I)I" } : Jvm.MethodName)) ∈ lw_all := lw_g (lw_at lw_m6 42 rfl) rfl
theorem q1674 : (Jvm.Cond.methodLink "ExactChainsLaw" (127 : Nat) ({ cls := "ExactChainsLaw", name := "count", desc := "(LExactChains;I[J)I" } : Jvm.MethodName)) ∈ lw_all := lw_g (lw_at lw_m7 134 rfl) rfl
theorem q1675 : (Jvm.Cond.static ({ cls := "ExactChainsLaw", name := "count", desc := "(LExactChains;I[J)I" } : Jvm.MethodName)) ∈ lw_all := lw_g (lw_at lw_m7 135 rfl) rfl
theorem q1676 : (Jvm.Cond.codeWith ({ cls := "ExactChainsLaw", name := "count", desc := "(LExactChains;I[J)I" } : Jvm.MethodName) method_5_code (4 : Nat) (Option.some Jvm.ClassFile.FieldType.int) [((0 : Nat), (9 : Nat), (12 : Nat), (19 : Nat))]) ∈ lw_all := lw_g (lw_at lw_m7 136 rfl) rfl
theorem q1677 : (Jvm.Cond.methodLink "ExactChainsLaw" (21 : Nat) ({ cls := "ExactChains", name := "count", desc := "(I)I" } : Jvm.MethodName)) ∈ lw_all := lw_g (lw_at lw_m7 137 rfl) rfl
theorem q1681 : (Jvm.Cond.methodLink "ExactChainsLaw" (130 : Nat) ({ cls := "ExactChainsLaw", name := "cell", desc := "(LExactChains;II[J)I" } : Jvm.MethodName)) ∈ lw_all := lw_g (lw_at lw_m7 141 rfl) rfl
theorem q1682 : (Jvm.Cond.static ({ cls := "ExactChainsLaw", name := "cell", desc := "(LExactChains;II[J)I" } : Jvm.MethodName)) ∈ lw_all := lw_g (lw_at lw_m7 142 rfl) rfl
theorem q1683 : (Jvm.Cond.codeWith ({ cls := "ExactChainsLaw", name := "cell", desc := "(LExactChains;II[J)I" } : Jvm.MethodName) method_6_code (5 : Nat) (Option.some Jvm.ClassFile.FieldType.int) [((0 : Nat), (10 : Nat), (13 : Nat), (28 : Nat))]) ∈ lw_all := lw_g (lw_at lw_m7 143 rfl) rfl
theorem q1684 : (Jvm.Cond.classLink "ExactChainsLaw" (28 : Nat) "java/lang/IndexOutOfBoundsException") ∈ lw_all := lw_g (lw_at lw_m7 144 rfl) rfl
theorem q1685 : (Jvm.Cond.methodLink "ExactChainsLaw" (24 : Nat) ({ cls := "ExactChains", name := "cell", desc := "(II)I" } : Jvm.MethodName)) ∈ lw_all := lw_g (lw_at lw_m7 145 rfl) rfl
theorem q1711 : (Jvm.Cond.methodLink "ExactChainsLaw" (134 : Nat) ({ cls := "ExactChainsLaw", name := "start", desc := "(LExactChains;I[J)I" } : Jvm.MethodName)) ∈ lw_all := lw_g (lw_at lw_m7 171 rfl) rfl
theorem q1712 : (Jvm.Cond.static ({ cls := "ExactChainsLaw", name := "start", desc := "(LExactChains;I[J)I" } : Jvm.MethodName)) ∈ lw_all := lw_g (lw_at lw_m7 172 rfl) rfl
theorem q1713 : (Jvm.Cond.codeWith ({ cls := "ExactChainsLaw", name := "start", desc := "(LExactChains;I[J)I" } : Jvm.MethodName) method_7_code (4 : Nat) (Option.some Jvm.ClassFile.FieldType.int) [((0 : Nat), (9 : Nat), (12 : Nat), (28 : Nat))]) ∈ lw_all := lw_g (lw_at lw_m7 173 rfl) rfl
theorem q1714 : (Jvm.Cond.methodLink "ExactChainsLaw" (30 : Nat) ({ cls := "ExactChains", name := "start", desc := "(I)I" } : Jvm.MethodName)) ∈ lw_all := lw_g (lw_at lw_m7 174 rfl) rfl
theorem q1718 : (Jvm.Cond.methodLink "ExactChainsLaw" (137 : Nat) ({ cls := "ExactChainsLaw", name := "setCell", desc := "(LExactChains;III[J)I" } : Jvm.MethodName)) ∈ lw_all := lw_g (lw_at lw_m7 178 rfl) rfl
theorem q1719 : (Jvm.Cond.static ({ cls := "ExactChainsLaw", name := "setCell", desc := "(LExactChains;III[J)I" } : Jvm.MethodName)) ∈ lw_all := lw_g (lw_at lw_m7 179 rfl) rfl
theorem q1720 : (Jvm.Cond.codeWith ({ cls := "ExactChainsLaw", name := "setCell", desc := "(LExactChains;III[J)I" } : Jvm.MethodName) method_8_code (6 : Nat) (Option.some Jvm.ClassFile.FieldType.int) [((0 : Nat), (12 : Nat), (15 : Nat), (28 : Nat)), ((0 : Nat), (12 : Nat), (19 : Nat), (19 : Nat))]) ∈ lw_all := lw_g (lw_at lw_m7 180 rfl) rfl
theorem q1721 : (Jvm.Cond.methodLink "ExactChainsLaw" (33 : Nat) ({ cls := "ExactChains", name := "setCell", desc := "(III)I" } : Jvm.MethodName)) ∈ lw_all := lw_g (lw_at lw_m7 181 rfl) rfl
theorem q1735 : (Jvm.Cond.methodLink "ExactChainsLaw" (141 : Nat) ({ cls := "ExactChainsLaw", name := "setStart", desc := "(LExactChains;II[J)I" } : Jvm.MethodName)) ∈ lw_all := lw_g (lw_at lw_m7 195 rfl) rfl
theorem q1736 : (Jvm.Cond.static ({ cls := "ExactChainsLaw", name := "setStart", desc := "(LExactChains;II[J)I" } : Jvm.MethodName)) ∈ lw_all := lw_g (lw_at lw_m7 196 rfl) rfl
theorem q1737 : (Jvm.Cond.codeWith ({ cls := "ExactChainsLaw", name := "setStart", desc := "(LExactChains;II[J)I" } : Jvm.MethodName) method_9_code (5 : Nat) (Option.some Jvm.ClassFile.FieldType.int) [((0 : Nat), (10 : Nat), (13 : Nat), (28 : Nat)), ((0 : Nat), (10 : Nat), (17 : Nat), (19 : Nat))]) ∈ lw_all := lw_g (lw_at lw_m7 197 rfl) rfl
theorem q1738 : (Jvm.Cond.methodLink "ExactChainsLaw" (37 : Nat) ({ cls := "ExactChains", name := "setStart", desc := "(II)I" } : Jvm.MethodName)) ∈ lw_all := lw_g (lw_at lw_m7 198 rfl) rfl
theorem q1743 : (Jvm.Cond.methodLink "ExactChainsLaw" (144 : Nat) ({ cls := "ExactChainsLaw", name := "setLimit", desc := "(LExactChains;I[J)I" } : Jvm.MethodName)) ∈ lw_all := lw_g (lw_at lw_m7 203 rfl) rfl
theorem q1744 : (Jvm.Cond.static ({ cls := "ExactChainsLaw", name := "setLimit", desc := "(LExactChains;I[J)I" } : Jvm.MethodName)) ∈ lw_all := lw_g (lw_at lw_m7 204 rfl) rfl
theorem q1745 : (Jvm.Cond.codeWith ({ cls := "ExactChainsLaw", name := "setLimit", desc := "(LExactChains;I[J)I" } : Jvm.MethodName) method_10_code (4 : Nat) (Option.some Jvm.ClassFile.FieldType.int) [((0 : Nat), (9 : Nat), (12 : Nat), (19 : Nat))]) ∈ lw_all := lw_g (lw_at lw_m7 205 rfl) rfl
theorem q1746 : (Jvm.Cond.methodLink "ExactChainsLaw" (40 : Nat) ({ cls := "ExactChains", name := "setLimit", desc := "(I)I" } : Jvm.MethodName)) ∈ lw_all := lw_g (lw_at lw_m7 206 rfl) rfl
theorem q1751 : (Jvm.Cond.methodLink "ExactChainsLaw" (147 : Nat) ({ cls := "ExactChainsLaw", name := "setRestarts", desc := "(LExactChains;I[J)I" } : Jvm.MethodName)) ∈ lw_all := lw_g (lw_at lw_m7 211 rfl) rfl
theorem q1752 : (Jvm.Cond.static ({ cls := "ExactChainsLaw", name := "setRestarts", desc := "(LExactChains;I[J)I" } : Jvm.MethodName)) ∈ lw_all := lw_g (lw_at lw_m7 212 rfl) rfl
theorem q1753 : (Jvm.Cond.codeWith ({ cls := "ExactChainsLaw", name := "setRestarts", desc := "(LExactChains;I[J)I" } : Jvm.MethodName) method_11_code (4 : Nat) (Option.some Jvm.ClassFile.FieldType.int) [((0 : Nat), (9 : Nat), (12 : Nat), (19 : Nat))]) ∈ lw_all := lw_g (lw_at lw_m7 213 rfl) rfl
theorem q1754 : (Jvm.Cond.methodLink "ExactChainsLaw" (43 : Nat) ({ cls := "ExactChains", name := "setRestarts", desc := "(I)I" } : Jvm.MethodName)) ∈ lw_all := lw_g (lw_at lw_m7 214 rfl) rfl
theorem q1758 : (Jvm.Cond.methodLink "ExactChainsLaw" (159 : Nat) ({ cls := "ExactChainsLaw", name := "run", desc := "(LExactChains;I[J)I" } : Jvm.MethodName)) ∈ lw_all := lw_g (lw_at lw_m7 218 rfl) rfl
theorem q1759 : (Jvm.Cond.static ({ cls := "ExactChainsLaw", name := "run", desc := "(LExactChains;I[J)I" } : Jvm.MethodName)) ∈ lw_all := lw_g (lw_at lw_m7 219 rfl) rfl
theorem q1760 : (Jvm.Cond.codeWith ({ cls := "ExactChainsLaw", name := "run", desc := "(LExactChains;I[J)I" } : Jvm.MethodName) method_12_code (4 : Nat) (Option.some Jvm.ClassFile.FieldType.int) [((0 : Nat), (9 : Nat), (12 : Nat), (19 : Nat))]) ∈ lw_all := lw_g (lw_at lw_m7 220 rfl) rfl
theorem q1761 : (Jvm.Cond.methodLink "ExactChainsLaw" (46 : Nat) ({ cls := "ExactChains", name := "run", desc := "(I)I" } : Jvm.MethodName)) ∈ lw_all := lw_g (lw_at lw_m7 221 rfl) rfl
theorem q1766 : (Jvm.Cond.methodLink "ExactChainsLaw" (166 : Nat) ({ cls := "ExactChainsLaw", name := "chain", desc := "(LExactChains;II[J)I" } : Jvm.MethodName)) ∈ lw_all := lw_g (lw_at lw_m7 226 rfl) rfl
theorem q1767 : (Jvm.Cond.static ({ cls := "ExactChainsLaw", name := "chain", desc := "(LExactChains;II[J)I" } : Jvm.MethodName)) ∈ lw_all := lw_g (lw_at lw_m7 227 rfl) rfl
theorem q1768 : (Jvm.Cond.codeWith ({ cls := "ExactChainsLaw", name := "chain", desc := "(LExactChains;II[J)I" } : Jvm.MethodName) method_13_code (5 : Nat) (Option.some Jvm.ClassFile.FieldType.int) [((0 : Nat), (10 : Nat), (13 : Nat), (28 : Nat)), ((0 : Nat), (10 : Nat), (17 : Nat), (19 : Nat))]) ∈ lw_all := lw_g (lw_at lw_m7 228 rfl) rfl
theorem q1769 : (Jvm.Cond.methodLink "ExactChainsLaw" (49 : Nat) ({ cls := "ExactChains", name := "chain", desc := "(II)I" } : Jvm.MethodName)) ∈ lw_all := lw_g (lw_at lw_m7 229 rfl) rfl
theorem q1791 : (Jvm.Cond.methodLink "ExactChainsLaw" (169 : Nat) ({ cls := "ExactChainsLaw", name := "polynomial", desc := "(LExactChains;II[J)I" } : Jvm.MethodName)) ∈ lw_all := lw_g (lw_at lw_m8 11 rfl) rfl
theorem q1792 : (Jvm.Cond.static ({ cls := "ExactChainsLaw", name := "polynomial", desc := "(LExactChains;II[J)I" } : Jvm.MethodName)) ∈ lw_all := lw_g (lw_at lw_m8 12 rfl) rfl
theorem q1793 : (Jvm.Cond.codeWith ({ cls := "ExactChainsLaw", name := "polynomial", desc := "(LExactChains;II[J)I" } : Jvm.MethodName) method_14_code (5 : Nat) (Option.some Jvm.ClassFile.FieldType.int) [((0 : Nat), (10 : Nat), (13 : Nat), (28 : Nat)), ((0 : Nat), (10 : Nat), (17 : Nat), (19 : Nat))]) ∈ lw_all := lw_g (lw_at lw_m8 13 rfl) rfl
theorem q1794 : (Jvm.Cond.methodLink "ExactChainsLaw" (52 : Nat) ({ cls := "ExactChains", name := "polynomial", desc := "(II)I" } : Jvm.MethodName)) ∈ lw_all := lw_g (lw_at lw_m8 14 rfl) rfl
theorem q1798 : (Jvm.Cond.methodLink "ExactChainsLaw" (172 : Nat) ({ cls := "ExactChainsLaw", name := "coefficient", desc := "(LExactChains;II[J)I" } : Jvm.MethodName)) ∈ lw_all := lw_g (lw_at lw_m8 18 rfl) rfl
theorem q1799 : (Jvm.Cond.static ({ cls := "ExactChainsLaw", name := "coefficient", desc := "(LExactChains;II[J)I" } : Jvm.MethodName)) ∈ lw_all := lw_g (lw_at lw_m8 19 rfl) rfl
theorem q1800 : (Jvm.Cond.codeWith ({ cls := "ExactChainsLaw", name := "coefficient", desc := "(LExactChains;II[J)I" } : Jvm.MethodName) method_15_code (5 : Nat) (Option.some Jvm.ClassFile.FieldType.int) [((0 : Nat), (10 : Nat), (13 : Nat), (28 : Nat)), ((0 : Nat), (10 : Nat), (17 : Nat), (19 : Nat))]) ∈ lw_all := lw_g (lw_at lw_m8 20 rfl) rfl
theorem q1801 : (Jvm.Cond.methodLink "ExactChainsLaw" (55 : Nat) ({ cls := "ExactChains", name := "coefficient", desc := "(II)I" } : Jvm.MethodName)) ∈ lw_all := lw_g (lw_at lw_m8 21 rfl) rfl
theorem q1809 : (Jvm.Cond.methodLink "ExactChainsLaw" (175 : Nat) ({ cls := "ExactChainsLaw", name := "applied", desc := "(LExactChains;III[J)I" } : Jvm.MethodName)) ∈ lw_all := lw_g (lw_at lw_m8 29 rfl) rfl
theorem q1810 : (Jvm.Cond.static ({ cls := "ExactChainsLaw", name := "applied", desc := "(LExactChains;III[J)I" } : Jvm.MethodName)) ∈ lw_all := lw_g (lw_at lw_m8 30 rfl) rfl
theorem q1811 : (Jvm.Cond.codeWith ({ cls := "ExactChainsLaw", name := "applied", desc := "(LExactChains;III[J)I" } : Jvm.MethodName) method_16_code (6 : Nat) (Option.some Jvm.ClassFile.FieldType.int) [((0 : Nat), (12 : Nat), (15 : Nat), (28 : Nat))]) ∈ lw_all := lw_g (lw_at lw_m8 31 rfl) rfl
theorem q1812 : (Jvm.Cond.methodLink "ExactChainsLaw" (58 : Nat) ({ cls := "ExactChains", name := "applied", desc := "(III)I" } : Jvm.MethodName)) ∈ lw_all := lw_g (lw_at lw_m8 32 rfl) rfl
theorem q1821 : (Jvm.Cond.methodLink "ExactChainsLaw" (178 : Nat) ({ cls := "ExactChainsLaw", name := "ended", desc := "(LExactChains;I[J)I" } : Jvm.MethodName)) ∈ lw_all := lw_g (lw_at lw_m8 41 rfl) rfl
theorem q1822 : (Jvm.Cond.static ({ cls := "ExactChainsLaw", name := "ended", desc := "(LExactChains;I[J)I" } : Jvm.MethodName)) ∈ lw_all := lw_g (lw_at lw_m8 42 rfl) rfl
theorem q1823 : (Jvm.Cond.codeWith ({ cls := "ExactChainsLaw", name := "ended", desc := "(LExactChains;I[J)I" } : Jvm.MethodName) method_17_code (4 : Nat) (Option.some Jvm.ClassFile.FieldType.int) [((0 : Nat), (9 : Nat), (12 : Nat), (19 : Nat))]) ∈ lw_all := lw_g (lw_at lw_m8 43 rfl) rfl
theorem q1824 : (Jvm.Cond.methodLink "ExactChainsLaw" (61 : Nat) ({ cls := "ExactChains", name := "ended", desc := "(I)I" } : Jvm.MethodName)) ∈ lw_all := lw_g (lw_at lw_m8 44 rfl) rfl
theorem q1829 : (Jvm.Cond.methodLink "ExactChainsLaw" (181 : Nat) ({ cls := "ExactChainsLaw", name := "direction", desc := "(LExactChains;II[J)I" } : Jvm.MethodName)) ∈ lw_all := lw_g (lw_at lw_m8 49 rfl) rfl
theorem q1830 : (Jvm.Cond.static ({ cls := "ExactChainsLaw", name := "direction", desc := "(LExactChains;II[J)I" } : Jvm.MethodName)) ∈ lw_all := lw_g (lw_at lw_m8 50 rfl) rfl
theorem q1831 : (Jvm.Cond.codeWith ({ cls := "ExactChainsLaw", name := "direction", desc := "(LExactChains;II[J)I" } : Jvm.MethodName) method_18_code (5 : Nat) (Option.some Jvm.ClassFile.FieldType.int) [((0 : Nat), (10 : Nat), (13 : Nat), (28 : Nat))]) ∈ lw_all := lw_g (lw_at lw_m8 51 rfl) rfl
theorem q1832 : (Jvm.Cond.methodLink "ExactChainsLaw" (64 : Nat) ({ cls := "ExactChains", name := "direction", desc := "(II)I" } : Jvm.MethodName)) ∈ lw_all := lw_g (lw_at lw_m8 52 rfl) rfl
theorem q1840 : (Jvm.Cond.methodLink "ExactChainsLaw" (184 : Nat) ({ cls := "ExactChainsLaw", name := "chainOf", desc := "(LExactChains;I[J)I" } : Jvm.MethodName)) ∈ lw_all := lw_g (lw_at lw_m8 60 rfl) rfl
theorem q1841 : (Jvm.Cond.static ({ cls := "ExactChainsLaw", name := "chainOf", desc := "(LExactChains;I[J)I" } : Jvm.MethodName)) ∈ lw_all := lw_g (lw_at lw_m8 61 rfl) rfl
theorem q1842 : (Jvm.Cond.codeWith ({ cls := "ExactChainsLaw", name := "chainOf", desc := "(LExactChains;I[J)I" } : Jvm.MethodName) method_19_code (4 : Nat) (Option.some Jvm.ClassFile.FieldType.int) [((0 : Nat), (9 : Nat), (12 : Nat), (28 : Nat))]) ∈ lw_all := lw_g (lw_at lw_m8 62 rfl) rfl
theorem q1843 : (Jvm.Cond.methodLink "ExactChainsLaw" (67 : Nat) ({ cls := "ExactChains", name := "chainOf", desc := "(I)I" } : Jvm.MethodName)) ∈ lw_all := lw_g (lw_at lw_m8 63 rfl) rfl
theorem q1852 : (Jvm.Cond.methodLink "ExactChainsLaw" (187 : Nat) ({ cls := "ExactChainsLaw", name := "product", desc := "(LExactChains;II[J)I" } : Jvm.MethodName)) ∈ lw_all := lw_g (lw_at lw_m8 72 rfl) rfl
theorem q1853 : (Jvm.Cond.static ({ cls := "ExactChainsLaw", name := "product", desc := "(LExactChains;II[J)I" } : Jvm.MethodName)) ∈ lw_all := lw_g (lw_at lw_m8 73 rfl) rfl
theorem q1854 : (Jvm.Cond.codeWith ({ cls := "ExactChainsLaw", name := "product", desc := "(LExactChains;II[J)I" } : Jvm.MethodName) method_20_code (5 : Nat) (Option.some Jvm.ClassFile.FieldType.int) [((0 : Nat), (10 : Nat), (13 : Nat), (28 : Nat))]) ∈ lw_all := lw_g (lw_at lw_m8 74 rfl) rfl
theorem q1855 : (Jvm.Cond.methodLink "ExactChainsLaw" (70 : Nat) ({ cls := "ExactChains", name := "product", desc := "(II)I" } : Jvm.MethodName)) ∈ lw_all := lw_g (lw_at lw_m8 75 rfl) rfl
theorem q1859 : (Jvm.Cond.methodLink "ExactChainsLaw" (198 : Nat) ({ cls := "ExactChainsLaw", name := "projected", desc := "(LExactChains;II[J)I" } : Jvm.MethodName)) ∈ lw_all := lw_g (lw_at lw_m8 79 rfl) rfl
theorem q1860 : (Jvm.Cond.static ({ cls := "ExactChainsLaw", name := "projected", desc := "(LExactChains;II[J)I" } : Jvm.MethodName)) ∈ lw_all := lw_g (lw_at lw_m8 80 rfl) rfl
theorem q1861 : (Jvm.Cond.codeWith ({ cls := "ExactChainsLaw", name := "projected", desc := "(LExactChains;II[J)I" } : Jvm.MethodName) method_21_code (5 : Nat) (Option.some Jvm.ClassFile.FieldType.int) [((0 : Nat), (10 : Nat), (13 : Nat), (28 : Nat))]) ∈ lw_all := lw_g (lw_at lw_m8 81 rfl) rfl
theorem q1862 : (Jvm.Cond.methodLink "ExactChainsLaw" (73 : Nat) ({ cls := "ExactChains", name := "projected", desc := "(II)I" } : Jvm.MethodName)) ∈ lw_all := lw_g (lw_at lw_m8 82 rfl) rfl
theorem q1867 : (Jvm.Cond.methodLink "ExactChainsLaw" (214 : Nat) ({ cls := "ExactChainsLaw", name := "determinantAt", desc := "(LExactChains;I[J)I" } : Jvm.MethodName)) ∈ lw_all := lw_g (lw_at lw_m8 87 rfl) rfl
theorem q1868 : (Jvm.Cond.static ({ cls := "ExactChainsLaw", name := "determinantAt", desc := "(LExactChains;I[J)I" } : Jvm.MethodName)) ∈ lw_all := lw_g (lw_at lw_m8 88 rfl) rfl
theorem q1869 : (Jvm.Cond.codeWith ({ cls := "ExactChainsLaw", name := "determinantAt", desc := "(LExactChains;I[J)I" } : Jvm.MethodName) method_22_code (4 : Nat) (Option.some Jvm.ClassFile.FieldType.int) [((0 : Nat), (9 : Nat), (12 : Nat), (19 : Nat))]) ∈ lw_all := lw_g (lw_at lw_m8 89 rfl) rfl
theorem q1870 : (Jvm.Cond.methodLink "ExactChainsLaw" (76 : Nat) ({ cls := "ExactChains", name := "determinantAt", desc := "(I)I" } : Jvm.MethodName)) ∈ lw_all := lw_g (lw_at lw_m8 90 rfl) rfl
theorem q1874 : (Jvm.Cond.methodLink "ExactChainsLaw" (217 : Nat) ({ cls := "ExactChainsLaw", name := "dimension", desc := "(LExactChains;I[J)I" } : Jvm.MethodName)) ∈ lw_all := lw_g (lw_at lw_m8 94 rfl) rfl
theorem q1875 : (Jvm.Cond.static ({ cls := "ExactChainsLaw", name := "dimension", desc := "(LExactChains;I[J)I" } : Jvm.MethodName)) ∈ lw_all := lw_g (lw_at lw_m8 95 rfl) rfl
theorem q1876 : (Jvm.Cond.codeWith ({ cls := "ExactChainsLaw", name := "dimension", desc := "(LExactChains;I[J)I" } : Jvm.MethodName) method_23_code (4 : Nat) (Option.some Jvm.ClassFile.FieldType.int) [((0 : Nat), (9 : Nat), (12 : Nat), (19 : Nat))]) ∈ lw_all := lw_g (lw_at lw_m8 96 rfl) rfl
theorem q1877 : (Jvm.Cond.methodLink "ExactChainsLaw" (79 : Nat) ({ cls := "ExactChains", name := "dimension", desc := "(I)I" } : Jvm.MethodName)) ∈ lw_all := lw_g (lw_at lw_m8 97 rfl) rfl
theorem q1881 : (Jvm.Cond.methodLink "ExactChainsLaw" (233 : Nat) ({ cls := "ExactChainsLaw", name := "reachOf", desc := "(LExactChains;I[J)I" } : Jvm.MethodName)) ∈ lw_all := lw_g (lw_at lw_m8 101 rfl) rfl
theorem q1882 : (Jvm.Cond.static ({ cls := "ExactChainsLaw", name := "reachOf", desc := "(LExactChains;I[J)I" } : Jvm.MethodName)) ∈ lw_all := lw_g (lw_at lw_m8 102 rfl) rfl
theorem q1883 : (Jvm.Cond.codeWith ({ cls := "ExactChainsLaw", name := "reachOf", desc := "(LExactChains;I[J)I" } : Jvm.MethodName) method_24_code (4 : Nat) (Option.some Jvm.ClassFile.FieldType.int) [((0 : Nat), (9 : Nat), (12 : Nat), (28 : Nat))]) ∈ lw_all := lw_g (lw_at lw_m8 103 rfl) rfl
theorem q1884 : (Jvm.Cond.methodLink "ExactChainsLaw" (82 : Nat) ({ cls := "ExactChains", name := "reachOf", desc := "(I)I" } : Jvm.MethodName)) ∈ lw_all := lw_g (lw_at lw_m8 104 rfl) rfl
theorem q1888 : (Jvm.Cond.methodLink "ExactChainsLaw" (236 : Nat) ({ cls := "ExactChainsLaw", name := "solution", desc := "(LExactChains;I[J)I" } : Jvm.MethodName)) ∈ lw_all := lw_g (lw_at lw_m8 108 rfl) rfl
theorem q1889 : (Jvm.Cond.static ({ cls := "ExactChainsLaw", name := "solution", desc := "(LExactChains;I[J)I" } : Jvm.MethodName)) ∈ lw_all := lw_g (lw_at lw_m8 109 rfl) rfl
theorem q1890 : (Jvm.Cond.codeWith ({ cls := "ExactChainsLaw", name := "solution", desc := "(LExactChains;I[J)I" } : Jvm.MethodName) method_25_code (4 : Nat) (Option.some Jvm.ClassFile.FieldType.int) [((0 : Nat), (9 : Nat), (12 : Nat), (28 : Nat)), ((0 : Nat), (9 : Nat), (15 : Nat), (13 : Nat)), ((0 : Nat), (9 : Nat), (18 : Nat), (88 : Nat))]) ∈ lw_all := lw_g (lw_at lw_m8 110 rfl) rfl
theorem q1891 : (Jvm.Cond.classLink "ExactChainsLaw" (88 : Nat) "java/util/NoSuchElementException") ∈ lw_all := lw_g (lw_at lw_m8 111 rfl) rfl
theorem q1892 : (Jvm.Cond.methodLink "ExactChainsLaw" (85 : Nat) ({ cls := "ExactChains", name := "solution", desc := "(I)I" } : Jvm.MethodName)) ∈ lw_all := lw_g (lw_at lw_m8 112 rfl) rfl
theorem q1911 : (Jvm.Cond.methodLink "ExactChainsLaw" (239 : Nat) ({ cls := "ExactChainsLaw", name := "remainder", desc := "(LExactChains;II[J)I" } : Jvm.MethodName)) ∈ lw_all := lw_g (lw_at lw_m8 131 rfl) rfl
theorem q1912 : (Jvm.Cond.static ({ cls := "ExactChainsLaw", name := "remainder", desc := "(LExactChains;II[J)I" } : Jvm.MethodName)) ∈ lw_all := lw_g (lw_at lw_m8 132 rfl) rfl
theorem q1913 : (Jvm.Cond.codeWith ({ cls := "ExactChainsLaw", name := "remainder", desc := "(LExactChains;II[J)I" } : Jvm.MethodName) method_26_code (5 : Nat) (Option.some Jvm.ClassFile.FieldType.int) [((0 : Nat), (10 : Nat), (13 : Nat), (28 : Nat))]) ∈ lw_all := lw_g (lw_at lw_m8 133 rfl) rfl
theorem q1914 : (Jvm.Cond.methodLink "ExactChainsLaw" (90 : Nat) ({ cls := "ExactChains", name := "remainder", desc := "(II)I" } : Jvm.MethodName)) ∈ lw_all := lw_g (lw_at lw_m8 134 rfl) rfl
theorem q1919 : (Jvm.Cond.methodLink "ExactChainsLaw" (246 : Nat) ({ cls := "ExactChainsLaw", name := "writtenByte", desc := "(LExactChains;I[J)I" } : Jvm.MethodName)) ∈ lw_all := lw_g (lw_at lw_m8 139 rfl) rfl
theorem q1920 : (Jvm.Cond.static ({ cls := "ExactChainsLaw", name := "writtenByte", desc := "(LExactChains;I[J)I" } : Jvm.MethodName)) ∈ lw_all := lw_g (lw_at lw_m8 140 rfl) rfl
theorem q1921 : (Jvm.Cond.codeWith ({ cls := "ExactChainsLaw", name := "writtenByte", desc := "(LExactChains;I[J)I" } : Jvm.MethodName) method_27_code (4 : Nat) (Option.some Jvm.ClassFile.FieldType.int) [((0 : Nat), (9 : Nat), (12 : Nat), (28 : Nat))]) ∈ lw_all := lw_g (lw_at lw_m8 141 rfl) rfl
theorem q1922 : (Jvm.Cond.methodLink "ExactChainsLaw" (93 : Nat) ({ cls := "ExactChains", name := "writtenByte", desc := "(I)I" } : Jvm.MethodName)) ∈ lw_all := lw_g (lw_at lw_m8 142 rfl) rfl
theorem q1936 : (Jvm.Cond.methodLink "ExactChainsLaw" (249 : Nat) ({ cls := "ExactChainsLaw", name := "undo", desc := "(LExactChains;[J)I" } : Jvm.MethodName)) ∈ lw_all := lw_g (lw_at lw_m8 156 rfl) rfl
theorem q1937 : (Jvm.Cond.static ({ cls := "ExactChainsLaw", name := "undo", desc := "(LExactChains;[J)I" } : Jvm.MethodName)) ∈ lw_all := lw_g (lw_at lw_m8 157 rfl) rfl
theorem q1938 : (Jvm.Cond.codeWith ({ cls := "ExactChainsLaw", name := "undo", desc := "(LExactChains;[J)I" } : Jvm.MethodName) method_28_code (3 : Nat) (Option.some Jvm.ClassFile.FieldType.int) [((0 : Nat), (8 : Nat), (11 : Nat), (13 : Nat))]) ∈ lw_all := lw_g (lw_at lw_m8 158 rfl) rfl
theorem q1939 : (Jvm.Cond.methodLink "ExactChainsLaw" (96 : Nat) ({ cls := "ExactChains", name := "undo", desc := "()I" } : Jvm.MethodName)) ∈ lw_all := lw_g (lw_at lw_m8 159 rfl) rfl
theorem q1958 : (Jvm.Cond.methodLink "ExactChainsLaw" (253 : Nat) ({ cls := "ExactChainsLaw", name := "save", desc := "(LExactChains;I[J)I" } : Jvm.MethodName)) ∈ lw_all := lw_g (lw_at lw_m8 178 rfl) rfl
theorem q1959 : (Jvm.Cond.static ({ cls := "ExactChainsLaw", name := "save", desc := "(LExactChains;I[J)I" } : Jvm.MethodName)) ∈ lw_all := lw_g (lw_at lw_m8 179 rfl) rfl
theorem q1960 : (Jvm.Cond.codeWith ({ cls := "ExactChainsLaw", name := "save", desc := "(LExactChains;I[J)I" } : Jvm.MethodName) method_29_code (4 : Nat) (Option.some Jvm.ClassFile.FieldType.int) [((0 : Nat), (9 : Nat), (12 : Nat), (28 : Nat))]) ∈ lw_all := lw_g (lw_at lw_m8 180 rfl) rfl
theorem q1961 : (Jvm.Cond.methodLink "ExactChainsLaw" (100 : Nat) ({ cls := "ExactChains", name := "save", desc := "(I)I" } : Jvm.MethodName)) ∈ lw_all := lw_g (lw_at lw_m8 181 rfl) rfl
theorem q1965 : (Jvm.Cond.methodLink "ExactChainsLaw" (256 : Nat) ({ cls := "ExactChainsLaw", name := "restore", desc := "(LExactChains;I[J)I" } : Jvm.MethodName)) ∈ lw_all := lw_g (lw_at lw_m8 185 rfl) rfl
theorem q1966 : (Jvm.Cond.static ({ cls := "ExactChainsLaw", name := "restore", desc := "(LExactChains;I[J)I" } : Jvm.MethodName)) ∈ lw_all := lw_g (lw_at lw_m8 186 rfl) rfl
theorem q1967 : (Jvm.Cond.codeWith ({ cls := "ExactChainsLaw", name := "restore", desc := "(LExactChains;I[J)I" } : Jvm.MethodName) method_30_code (4 : Nat) (Option.some Jvm.ClassFile.FieldType.int) [((0 : Nat), (9 : Nat), (12 : Nat), (28 : Nat)), ((0 : Nat), (9 : Nat), (15 : Nat), (13 : Nat))]) ∈ lw_all := lw_g (lw_at lw_m8 187 rfl) rfl
theorem q1968 : (Jvm.Cond.methodLink "ExactChainsLaw" (103 : Nat) ({ cls := "ExactChains", name := "restore", desc := "(I)I" } : Jvm.MethodName)) ∈ lw_all := lw_g (lw_at lw_m8 188 rfl) rfl
theorem q1972 : (Jvm.Cond.classLink "ExactChainsLaw" (107 : Nat) "ExactChainsModel") ∈ lw_all := lw_g (lw_at lw_m8 192 rfl) rfl
theorem q1974 : (Jvm.Cond.methodLink "ExactChainsLaw" (109 : Nat) ({ cls := "ExactChainsModel", name := "<init>", desc := "()V" } : Jvm.MethodName)) ∈ lw_all := lw_g (lw_at lw_m8 194 rfl) rfl
theorem q2072 : (Jvm.Cond.methodLink "ExactChainsLaw" (116 : Nat) ({ cls := "ExactChainsModel", name := "thrown", desc := "()I" } : Jvm.MethodName)) ∈ lw_all := lw_g (lw_at lw_m9 52 rfl) rfl
theorem q2076 : (Jvm.Cond.methodLink "ExactChainsLaw" (252 : Nat) ({ cls := "ExactChainsModel", name := "undo", desc := "()I" } : Jvm.MethodName)) ∈ lw_all := lw_g (lw_at lw_m9 56 rfl) rfl
theorem q2080 : (Jvm.Cond.methodLink "ExactChainsLaw" (255 : Nat) ({ cls := "ExactChainsModel", name := "save", desc := "(I)I" } : Jvm.MethodName)) ∈ lw_all := lw_g (lw_at lw_m9 60 rfl) rfl
theorem q2087 : (Jvm.Cond.methodLink "ExactChainsLaw" (258 : Nat) ({ cls := "ExactChainsModel", name := "restore", desc := "(I)I" } : Jvm.MethodName)) ∈ lw_all := lw_g (lw_at lw_m9 67 rfl) rfl
theorem q2095 : (Jvm.Cond.methodLink "ExactChainsLaw" (115 : Nat) ({ cls := "ExactChainsModel", name := "append", desc := "(IIIII)I" } : Jvm.MethodName)) ∈ lw_all := lw_g (lw_at lw_m9 75 rfl) rfl
theorem q2099 : (Jvm.Cond.methodLink "ExactChainsLaw" (122 : Nat) ({ cls := "ExactChainsModel", name := "load", desc := "(I)I" } : Jvm.MethodName)) ∈ lw_all := lw_g (lw_at lw_m9 79 rfl) rfl
theorem q2165 : (Jvm.Cond.methodLink "ExactChainsLaw" (126 : Nat) ({ cls := "ExactChainsModel", name := "errorPosition", desc := "()I" } : Jvm.MethodName)) ∈ lw_all := lw_g (lw_at lw_m9 145 rfl) rfl
theorem q2169 : (Jvm.Cond.methodLink "ExactChainsLaw" (129 : Nat) ({ cls := "ExactChainsModel", name := "count", desc := "(I)I" } : Jvm.MethodName)) ∈ lw_all := lw_g (lw_at lw_m9 149 rfl) rfl
theorem q2173 : (Jvm.Cond.methodLink "ExactChainsLaw" (133 : Nat) ({ cls := "ExactChainsModel", name := "cell", desc := "(II)I" } : Jvm.MethodName)) ∈ lw_all := lw_g (lw_at lw_m9 153 rfl) rfl
theorem q2185 : (Jvm.Cond.methodLink "ExactChainsLaw" (136 : Nat) ({ cls := "ExactChainsModel", name := "start", desc := "(I)I" } : Jvm.MethodName)) ∈ lw_all := lw_g (lw_at lw_m9 165 rfl) rfl
theorem q2189 : (Jvm.Cond.methodLink "ExactChainsLaw" (140 : Nat) ({ cls := "ExactChainsModel", name := "setCell", desc := "(III)I" } : Jvm.MethodName)) ∈ lw_all := lw_g (lw_at lw_m9 169 rfl) rfl
theorem q2201 : (Jvm.Cond.methodLink "ExactChainsLaw" (143 : Nat) ({ cls := "ExactChainsModel", name := "setStart", desc := "(II)I" } : Jvm.MethodName)) ∈ lw_all := lw_g (lw_at lw_m9 181 rfl) rfl
theorem q2205 : (Jvm.Cond.methodLink "ExactChainsLaw" (146 : Nat) ({ cls := "ExactChainsModel", name := "setLimit", desc := "(I)I" } : Jvm.MethodName)) ∈ lw_all := lw_g (lw_at lw_m9 185 rfl) rfl
theorem q2213 : (Jvm.Cond.methodLink "ExactChainsLaw" (149 : Nat) ({ cls := "ExactChainsModel", name := "setRestarts", desc := "(I)I" } : Jvm.MethodName)) ∈ lw_all := lw_g (lw_at lw_m9 193 rfl) rfl
theorem q2217 : (Jvm.Cond.methodLink "ExactChainsLaw" (154 : Nat) ({ cls := "ExactChainsModel", name := "setFull", desc := "(Z)Z" } : Jvm.MethodName)) ∈ lw_all := lw_g (lw_at lw_m9 197 rfl) rfl
theorem q2221 : (Jvm.Cond.methodLink "ExactChainsLaw" (158 : Nat) ({ cls := "ExactChainsModel", name := "step", desc := "()I" } : Jvm.MethodName)) ∈ lw_all := lw_g (lw_at lw_m9 201 rfl) rfl
theorem q2308 : (Jvm.Cond.methodLink "ExactChainsLaw" (161 : Nat) ({ cls := "ExactChainsModel", name := "run", desc := "(I)I" } : Jvm.MethodName)) ∈ lw_all := lw_g (lw_at lw_m10 48 rfl) rfl
theorem q2312 : (Jvm.Cond.methodLink "ExactChainsLaw" (165 : Nat) ({ cls := "ExactChainsModel", name := "reset", desc := "()I" } : Jvm.MethodName)) ∈ lw_all := lw_g (lw_at lw_m10 52 rfl) rfl
theorem q2316 : (Jvm.Cond.methodLink "ExactChainsLaw" (168 : Nat) ({ cls := "ExactChainsModel", name := "chain", desc := "(II)I" } : Jvm.MethodName)) ∈ lw_all := lw_g (lw_at lw_m10 56 rfl) rfl
theorem q2344 : (Jvm.Cond.methodLink "ExactChainsLaw" (171 : Nat) ({ cls := "ExactChainsModel", name := "polynomial", desc := "(II)I" } : Jvm.MethodName)) ∈ lw_all := lw_g (lw_at lw_m10 84 rfl) rfl
theorem q2348 : (Jvm.Cond.methodLink "ExactChainsLaw" (174 : Nat) ({ cls := "ExactChainsModel", name := "coefficient", desc := "(II)I" } : Jvm.MethodName)) ∈ lw_all := lw_g (lw_at lw_m10 88 rfl) rfl
theorem q2352 : (Jvm.Cond.methodLink "ExactChainsLaw" (177 : Nat) ({ cls := "ExactChainsModel", name := "applied", desc := "(III)I" } : Jvm.MethodName)) ∈ lw_all := lw_g (lw_at lw_m10 92 rfl) rfl
theorem q2356 : (Jvm.Cond.methodLink "ExactChainsLaw" (180 : Nat) ({ cls := "ExactChainsModel", name := "ended", desc := "(I)I" } : Jvm.MethodName)) ∈ lw_all := lw_g (lw_at lw_m10 96 rfl) rfl
theorem q2360 : (Jvm.Cond.methodLink "ExactChainsLaw" (183 : Nat) ({ cls := "ExactChainsModel", name := "direction", desc := "(II)I" } : Jvm.MethodName)) ∈ lw_all := lw_g (lw_at lw_m10 100 rfl) rfl
theorem q2368 : (Jvm.Cond.methodLink "ExactChainsLaw" (186 : Nat) ({ cls := "ExactChainsModel", name := "chainOf", desc := "(I)I" } : Jvm.MethodName)) ∈ lw_all := lw_g (lw_at lw_m10 108 rfl) rfl
theorem q2372 : (Jvm.Cond.methodLink "ExactChainsLaw" (189 : Nat) ({ cls := "ExactChainsModel", name := "product", desc := "(II)I" } : Jvm.MethodName)) ∈ lw_all := lw_g (lw_at lw_m10 112 rfl) rfl
theorem q2376 : (Jvm.Cond.methodLink "ExactChainsLaw" (193 : Nat) ({ cls := "ExactChainsModel", name := "skew", desc := "()I" } : Jvm.MethodName)) ∈ lw_all := lw_g (lw_at lw_m10 116 rfl) rfl
theorem q2380 : (Jvm.Cond.methodLink "ExactChainsLaw" (197 : Nat) ({ cls := "ExactChainsModel", name := "rank", desc := "()I" } : Jvm.MethodName)) ∈ lw_all := lw_g (lw_at lw_m10 120 rfl) rfl
theorem q2400 : (Jvm.Cond.methodLink "ExactChainsLaw" (200 : Nat) ({ cls := "ExactChainsModel", name := "projected", desc := "(II)I" } : Jvm.MethodName)) ∈ lw_all := lw_g (lw_at lw_m10 140 rfl) rfl
theorem q2404 : (Jvm.Cond.methodLink "ExactChainsLaw" (204 : Nat) ({ cls := "ExactChainsModel", name := "width", desc := "()I" } : Jvm.MethodName)) ∈ lw_all := lw_g (lw_at lw_m10 144 rfl) rfl
theorem q2408 : (Jvm.Cond.methodLink "ExactChainsLaw" (208 : Nat) ({ cls := "ExactChainsModel", name := "determinant", desc := "()I" } : Jvm.MethodName)) ∈ lw_all := lw_g (lw_at lw_m10 148 rfl) rfl
theorem q2416 : (Jvm.Cond.methodLink "ExactChainsLaw" (213 : Nat) ({ cls := "ExactChainsModel", name := "filled", desc := "()F" } : Jvm.MethodName)) ∈ lw_all := lw_g (lw_at lw_m10 156 rfl) rfl
theorem q2420 : (Jvm.Cond.methodLink "ExactChainsLaw" (216 : Nat) ({ cls := "ExactChainsModel", name := "determinantAt", desc := "(I)I" } : Jvm.MethodName)) ∈ lw_all := lw_g (lw_at lw_m10 160 rfl) rfl
theorem q2428 : (Jvm.Cond.methodLink "ExactChainsLaw" (219 : Nat) ({ cls := "ExactChainsModel", name := "dimension", desc := "(I)I" } : Jvm.MethodName)) ∈ lw_all := lw_g (lw_at lw_m10 168 rfl) rfl
theorem q2432 : (Jvm.Cond.methodLink "ExactChainsLaw" (223 : Nat) ({ cls := "ExactChainsModel", name := "eigenvalues", desc := "()I" } : Jvm.MethodName)) ∈ lw_all := lw_g (lw_at lw_m10 172 rfl) rfl
theorem q2436 : (Jvm.Cond.methodLink "ExactChainsLaw" (228 : Nat) ({ cls := "ExactChainsModel", name := "isSplit", desc := "()Z" } : Jvm.MethodName)) ∈ lw_all := lw_g (lw_at lw_m10 176 rfl) rfl
theorem q2440 : (Jvm.Cond.methodLink "ExactChainsLaw" (232 : Nat) ({ cls := "ExactChainsModel", name := "reach", desc := "()I" } : Jvm.MethodName)) ∈ lw_all := lw_g (lw_at lw_m10 180 rfl) rfl
theorem q2448 : (Jvm.Cond.methodLink "ExactChainsLaw" (235 : Nat) ({ cls := "ExactChainsModel", name := "reachOf", desc := "(I)I" } : Jvm.MethodName)) ∈ lw_all := lw_g (lw_at lw_m10 188 rfl) rfl
theorem q2452 : (Jvm.Cond.methodLink "ExactChainsLaw" (238 : Nat) ({ cls := "ExactChainsModel", name := "solution", desc := "(I)I" } : Jvm.MethodName)) ∈ lw_all := lw_g (lw_at lw_m10 192 rfl) rfl
theorem q2464 : (Jvm.Cond.methodLink "ExactChainsLaw" (241 : Nat) ({ cls := "ExactChainsModel", name := "remainder", desc := "(II)I" } : Jvm.MethodName)) ∈ lw_all := lw_g (lw_at lw_m10 204 rfl) rfl
theorem q2468 : (Jvm.Cond.methodLink "ExactChainsLaw" (245 : Nat) ({ cls := "ExactChainsModel", name := "writeChains", desc := "()I" } : Jvm.MethodName)) ∈ lw_all := lw_g (lw_at lw_m10 208 rfl) rfl
theorem q2479 : (Jvm.Cond.methodLink "ExactChainsLaw" (248 : Nat) ({ cls := "ExactChainsModel", name := "writtenByte", desc := "(I)I" } : Jvm.MethodName)) ∈ lw_all := lw_g (lw_at lw_m10 219 rfl) rfl
