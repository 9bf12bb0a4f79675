/-! the law's own entry -/
set_option maxRecDepth 100000
abbrev cL_law : ByteArray := code
def dkwL_law_102 : List UInt8 := [4, 172]
abbrev dktL_law_102 : List UInt8 := dkwL_law_102 ++ []
def dkwL_law_101 : List UInt8 := [154, 0, 15, 45, 3, 47, 21, 7, 133, 148, 153, 0, 5, 3, 172, 167, 0, 3, 132, 5, 5, 167, 246, 83]
abbrev dktL_law_101 : List UInt8 := dkwL_law_101 ++ dktL_law_102
def dkwL_law_100 : List UInt8 := [184, 1, 6, 54, 6, 44, 182, 1, 8, 54, 7, 44, 182, 0, 148, 21, 6, 159, 0, 5, 3, 172, 21, 6]
abbrev dktL_law_100 : List UInt8 := dkwL_law_100 ++ dktL_law_101
def dkwL_law_99 : List UInt8 := [153, 0, 5, 3, 172, 167, 0, 60, 43, 182, 1, 2, 44, 182, 1, 5, 159, 0, 49, 3, 172, 43, 45]
abbrev dktL_law_99 : List UInt8 := dkwL_law_99 ++ dktL_law_100
def dkwL_law_98 : List UInt8 := [182, 0, 148, 21, 6, 159, 0, 5, 3, 172, 21, 6, 154, 0, 15, 45, 3, 47, 21, 7, 133, 148]
abbrev dktL_law_98 : List UInt8 := dkwL_law_98 ++ dktL_law_99
def dkwL_law_97 : List UInt8 := [148, 153, 0, 5, 3, 172, 167, 0, 104, 43, 45, 184, 0, 255, 54, 6, 44, 182, 1, 1, 54, 7, 44]
abbrev dktL_law_97 : List UInt8 := dkwL_law_97 ++ dktL_law_98
def dkwL_law_96 : List UInt8 := [54, 7, 44, 182, 0, 148, 21, 6, 159, 0, 5, 3, 172, 21, 6, 154, 0, 15, 45, 3, 47, 21, 7, 133]
abbrev dktL_law_96 : List UInt8 := dkwL_law_96 ++ dktL_law_97
def dkwL_law_95 : List UInt8 := [21, 7, 133, 148, 153, 0, 5, 3, 172, 167, 0, 148, 43, 45, 184, 0, 252, 54, 6, 44, 182, 0, 254]
abbrev dktL_law_95 : List UInt8 := dkwL_law_95 ++ dktL_law_96
def dkwL_law_94 : List UInt8 := [182, 0, 251, 54, 7, 44, 182, 0, 148, 21, 6, 159, 0, 5, 3, 172, 21, 6, 154, 0, 15, 45, 3, 47]
abbrev dktL_law_94 : List UInt8 := dkwL_law_94 ++ dktL_law_95
def dkwL_law_93 : List UInt8 := [45, 3, 47, 21, 7, 133, 148, 153, 0, 5, 3, 172, 167, 0, 192, 43, 45, 184, 0, 249, 54, 6, 44]
abbrev dktL_law_93 : List UInt8 := dkwL_law_93 ++ dktL_law_94
def dkwL_law_92 : List UInt8 := [54, 6, 44, 182, 0, 248, 54, 7, 44, 182, 0, 148, 21, 6, 159, 0, 5, 3, 172, 21, 6, 154, 0, 15]
abbrev dktL_law_92 : List UInt8 := dkwL_law_92 ++ dktL_law_93
def dkwL_law_91 : List UInt8 := [154, 0, 15, 45, 3, 47, 21, 7, 133, 148, 153, 0, 5, 3, 172, 167, 0, 236, 43, 45, 184, 0, 246]
abbrev dktL_law_91 : List UInt8 := dkwL_law_91 ++ dktL_law_92
def dkwL_law_90 : List UInt8 := [21, 5, 4, 96, 46, 182, 0, 245, 54, 7, 44, 182, 0, 148, 21, 6, 159, 0, 5, 3, 172, 21, 6]
abbrev dktL_law_90 : List UInt8 := dkwL_law_90 ++ dktL_law_91
def dkwL_law_89 : List UInt8 := [153, 0, 5, 3, 172, 167, 1, 36, 43, 42, 21, 5, 4, 96, 46, 45, 184, 0, 243, 54, 6, 44, 42]
abbrev dktL_law_89 : List UInt8 := dkwL_law_89 ++ dktL_law_90
def dkwL_law_88 : List UInt8 := [55, 7, 44, 182, 0, 148, 21, 6, 159, 0, 5, 3, 172, 21, 6, 154, 0, 14, 45, 3, 47, 22, 7, 148]
abbrev dktL_law_88 : List UInt8 := dkwL_law_88 ++ dktL_law_89
def dkwL_law_87 : List UInt8 := [46, 45, 184, 0, 240, 54, 6, 44, 42, 21, 5, 4, 96, 46, 42, 21, 5, 5, 96, 46, 182, 0, 242]
abbrev dktL_law_87 : List UInt8 := dkwL_law_87 ++ dktL_law_88
def dkwL_law_86 : List UInt8 := [21, 7, 133, 148, 153, 0, 5, 3, 172, 167, 1, 103, 43, 42, 21, 5, 4, 96, 46, 42, 21, 5, 5, 96]
abbrev dktL_law_86 : List UInt8 := dkwL_law_86 ++ dktL_law_87
def dkwL_law_85 : List UInt8 := [182, 0, 239, 54, 7, 44, 182, 0, 148, 21, 6, 159, 0, 5, 3, 172, 21, 6, 154, 0, 15, 45, 3, 47]
abbrev dktL_law_85 : List UInt8 := dkwL_law_85 ++ dktL_law_86
def dkwL_law_84 : List UInt8 := [184, 0, 237, 54, 6, 44, 42, 21, 5, 4, 96, 46, 42, 21, 5, 5, 96, 46, 42, 21, 5, 6, 96, 46]
abbrev dktL_law_84 : List UInt8 := dkwL_law_84 ++ dktL_law_85
def dkwL_law_83 : List UInt8 := [167, 1, 183, 43, 42, 21, 5, 4, 96, 46, 42, 21, 5, 5, 96, 46, 42, 21, 5, 6, 96, 46, 45]
abbrev dktL_law_83 : List UInt8 := dkwL_law_83 ++ dktL_law_84
def dkwL_law_82 : List UInt8 := [159, 0, 5, 3, 172, 21, 6, 154, 0, 15, 45, 3, 47, 21, 7, 133, 148, 153, 0, 5, 3, 172]
abbrev dktL_law_82 : List UInt8 := dkwL_law_82 ++ dktL_law_83
def dkwL_law_81 : List UInt8 := [184, 0, 234, 54, 6, 44, 42, 21, 5, 4, 96, 46, 182, 0, 236, 54, 7, 44, 182, 0, 148, 21, 6]
abbrev dktL_law_81 : List UInt8 := dkwL_law_81 ++ dktL_law_82
def dkwL_law_80 : List UInt8 := [167, 1, 252, 43, 182, 0, 229, 44, 182, 0, 233, 159, 1, 241, 3, 172, 43, 42, 21, 5, 4, 96, 46, 45]
abbrev dktL_law_80 : List UInt8 := dkwL_law_80 ++ dktL_law_81
def dkwL_law_79 : List UInt8 := [25, 4, 3, 49, 25, 4, 3, 49, 151, 153, 0, 11, 23, 7, 23, 7, 149, 154, 0, 5, 3, 172]
abbrev dktL_law_79 : List UInt8 := dkwL_law_79 ++ dktL_law_80
def dkwL_law_78 : List UInt8 := [21, 6, 159, 0, 5, 3, 172, 21, 6, 154, 0, 36, 25, 4, 3, 49, 23, 7, 141, 151, 153, 0, 25]
abbrev dktL_law_78 : List UInt8 := dkwL_law_78 ++ dktL_law_79
def dkwL_law_77 : List UInt8 := [25, 4, 184, 0, 226, 54, 6, 44, 42, 21, 5, 4, 96, 46, 182, 0, 228, 56, 7, 44, 182, 0, 148]
abbrev dktL_law_77 : List UInt8 := dkwL_law_77 ++ dktL_law_78
def dkwL_law_76 : List UInt8 := [153, 0, 11, 24, 7, 24, 7, 151, 154, 0, 5, 3, 172, 167, 2, 74, 43, 42, 21, 5, 4, 96, 46]
abbrev dktL_law_76 : List UInt8 := dkwL_law_76 ++ dktL_law_77
def dkwL_law_75 : List UInt8 := [154, 0, 35, 25, 4, 3, 49, 24, 7, 151, 153, 0, 25, 25, 4, 3, 49, 25, 4, 3, 49, 151]
abbrev dktL_law_75 : List UInt8 := dkwL_law_75 ++ dktL_law_76
def dkwL_law_74 : List UInt8 := [21, 5, 4, 96, 46, 182, 0, 225, 57, 7, 44, 182, 0, 148, 21, 6, 159, 0, 5, 3, 172, 21, 6]
abbrev dktL_law_74 : List UInt8 := dkwL_law_74 ++ dktL_law_75
def dkwL_law_73 : List UInt8 := [153, 0, 5, 3, 172, 167, 2, 151, 43, 42, 21, 5, 4, 96, 46, 25, 4, 184, 0, 222, 54, 6, 44, 42]
abbrev dktL_law_73 : List UInt8 := dkwL_law_73 ++ dktL_law_74
def dkwL_law_72 : List UInt8 := [182, 0, 148, 21, 6, 159, 0, 5, 3, 172, 21, 6, 154, 0, 15, 45, 3, 47, 21, 7, 133, 148]
abbrev dktL_law_72 : List UInt8 := dkwL_law_72 ++ dktL_law_73
def dkwL_law_71 : List UInt8 := [184, 0, 219, 54, 6, 44, 42, 21, 5, 4, 96, 46, 42, 21, 5, 5, 96, 46, 182, 0, 221, 54, 7, 44]
abbrev dktL_law_71 : List UInt8 := dkwL_law_71 ++ dktL_law_72
def dkwL_law_70 : List UInt8 := [153, 0, 5, 3, 172, 167, 2, 219, 43, 42, 21, 5, 4, 96, 46, 42, 21, 5, 5, 96, 46, 45]
abbrev dktL_law_70 : List UInt8 := dkwL_law_70 ++ dktL_law_71
def dkwL_law_69 : List UInt8 := [182, 0, 148, 21, 6, 159, 0, 5, 3, 172, 21, 6, 154, 0, 15, 45, 3, 47, 21, 7, 133, 148]
abbrev dktL_law_69 : List UInt8 := dkwL_law_69 ++ dktL_law_70
def dkwL_law_68 : List UInt8 := [184, 0, 216, 54, 6, 44, 42, 21, 5, 4, 96, 46, 42, 21, 5, 5, 96, 46, 182, 0, 218, 54, 7, 44]
abbrev dktL_law_68 : List UInt8 := dkwL_law_68 ++ dktL_law_69
def dkwL_law_67 : List UInt8 := [153, 0, 5, 3, 172, 167, 3, 31, 43, 42, 21, 5, 4, 96, 46, 42, 21, 5, 5, 96, 46, 45]
abbrev dktL_law_67 : List UInt8 := dkwL_law_67 ++ dktL_law_68
def dkwL_law_66 : List UInt8 := [182, 0, 148, 21, 6, 159, 0, 5, 3, 172, 21, 6, 154, 0, 15, 45, 3, 47, 21, 7, 133, 148]
abbrev dktL_law_66 : List UInt8 := dkwL_law_66 ++ dktL_law_67
def dkwL_law_65 : List UInt8 := [184, 0, 213, 54, 6, 44, 42, 21, 5, 4, 96, 46, 42, 21, 5, 5, 96, 46, 182, 0, 215, 54, 7, 44]
abbrev dktL_law_65 : List UInt8 := dkwL_law_65 ++ dktL_law_66
def dkwL_law_64 : List UInt8 := [153, 0, 5, 3, 172, 167, 3, 99, 43, 42, 21, 5, 4, 96, 46, 42, 21, 5, 5, 96, 46, 45]
abbrev dktL_law_64 : List UInt8 := dkwL_law_64 ++ dktL_law_65
def dkwL_law_63 : List UInt8 := [44, 182, 0, 148, 21, 6, 159, 0, 5, 3, 172, 21, 6, 154, 0, 15, 45, 3, 47, 21, 7, 133, 148]
abbrev dktL_law_63 : List UInt8 := dkwL_law_63 ++ dktL_law_64
def dkwL_law_62 : List UInt8 := [45, 184, 0, 210, 54, 6, 44, 42, 21, 5, 4, 96, 46, 42, 21, 5, 5, 96, 46, 182, 0, 212, 54, 7]
abbrev dktL_law_62 : List UInt8 := dkwL_law_62 ++ dktL_law_63
def dkwL_law_61 : List UInt8 := [22, 7, 148, 153, 0, 5, 3, 172, 167, 3, 167, 43, 42, 21, 5, 4, 96, 46, 42, 21, 5, 5, 96, 46]
abbrev dktL_law_61 : List UInt8 := dkwL_law_61 ++ dktL_law_62
def dkwL_law_60 : List UInt8 := [182, 0, 209, 55, 7, 44, 182, 0, 148, 21, 6, 159, 0, 5, 3, 172, 21, 6, 154, 0, 14, 45, 3, 47]
abbrev dktL_law_60 : List UInt8 := dkwL_law_60 ++ dktL_law_61
def dkwL_law_59 : List UInt8 := [167, 3, 222, 43, 42, 21, 5, 4, 96, 46, 45, 184, 0, 207, 54, 6, 44, 42, 21, 5, 4, 96, 46]
abbrev dktL_law_59 : List UInt8 := dkwL_law_59 ++ dktL_law_60
def dkwL_law_58 : List UInt8 := [21, 6, 159, 0, 5, 3, 172, 21, 6, 154, 0, 15, 45, 3, 47, 21, 7, 133, 148, 153, 0, 5, 3, 172]
abbrev dktL_law_58 : List UInt8 := dkwL_law_58 ++ dktL_law_59
def dkwL_law_57 : List UInt8 := [46, 45, 184, 0, 204, 54, 6, 44, 42, 21, 5, 4, 96, 46, 182, 0, 206, 54, 7, 44, 182, 0, 148]
abbrev dktL_law_57 : List UInt8 := dkwL_law_57 ++ dktL_law_58
def dkwL_law_56 : List UInt8 := [154, 0, 15, 45, 3, 47, 21, 7, 133, 148, 153, 0, 5, 3, 172, 167, 4, 22, 43, 42, 21, 5, 4, 96]
abbrev dktL_law_56 : List UInt8 := dkwL_law_56 ++ dktL_law_57
def dkwL_law_55 : List UInt8 := [42, 21, 5, 5, 96, 46, 182, 0, 203, 54, 7, 44, 182, 0, 148, 21, 6, 159, 0, 5, 3, 172, 21, 6]
abbrev dktL_law_55 : List UInt8 := dkwL_law_55 ++ dktL_law_56
def dkwL_law_54 : List UInt8 := [21, 5, 4, 96, 46, 42, 21, 5, 5, 96, 46, 45, 184, 0, 201, 54, 6, 44, 42, 21, 5, 4, 96, 46]
abbrev dktL_law_54 : List UInt8 := dkwL_law_54 ++ dktL_law_55
def dkwL_law_53 : List UInt8 := [172, 21, 6, 154, 0, 15, 45, 3, 47, 21, 7, 133, 148, 153, 0, 5, 3, 172, 167, 4, 90, 43, 42]
abbrev dktL_law_53 : List UInt8 := dkwL_law_53 ++ dktL_law_54
def dkwL_law_52 : List UInt8 := [54, 6, 44, 42, 21, 5, 4, 96, 46, 182, 0, 200, 54, 7, 44, 182, 0, 148, 21, 6, 159, 0, 5, 3]
abbrev dktL_law_52 : List UInt8 := dkwL_law_52 ++ dktL_law_53
def dkwL_law_51 : List UInt8 := [21, 7, 133, 148, 153, 0, 5, 3, 172, 167, 4, 146, 43, 42, 21, 5, 4, 96, 46, 45, 184, 0, 198]
abbrev dktL_law_51 : List UInt8 := dkwL_law_51 ++ dktL_law_52
def dkwL_law_50 : List UInt8 := [182, 0, 197, 54, 7, 44, 182, 0, 148, 21, 6, 159, 0, 5, 3, 172, 21, 6, 154, 0, 15, 45, 3, 47]
abbrev dktL_law_50 : List UInt8 := dkwL_law_50 ++ dktL_law_51
def dkwL_law_49 : List UInt8 := [167, 4, 202, 43, 42, 21, 5, 4, 96, 46, 45, 184, 0, 195, 54, 6, 44, 42, 21, 5, 4, 96, 46]
abbrev dktL_law_49 : List UInt8 := dkwL_law_49 ++ dktL_law_50
def dkwL_law_48 : List UInt8 := [159, 0, 5, 3, 172, 21, 6, 154, 0, 15, 45, 3, 47, 21, 7, 133, 148, 153, 0, 5, 3, 172]
abbrev dktL_law_48 : List UInt8 := dkwL_law_48 ++ dktL_law_49
def dkwL_law_47 : List UInt8 := [21, 5, 4, 96, 46, 42, 21, 5, 5, 96, 46, 182, 0, 194, 54, 7, 44, 182, 0, 148, 21, 6]
abbrev dktL_law_47 : List UInt8 := dkwL_law_47 ++ dktL_law_48
def dkwL_law_46 : List UInt8 := [167, 5, 14, 43, 42, 21, 5, 4, 96, 46, 42, 21, 5, 5, 96, 46, 45, 184, 0, 192, 54, 6, 44, 42]
abbrev dktL_law_46 : List UInt8 := dkwL_law_46 ++ dktL_law_47
def dkwL_law_45 : List UInt8 := [159, 0, 5, 3, 172, 21, 6, 154, 0, 15, 45, 3, 47, 21, 7, 133, 148, 153, 0, 5, 3, 172]
abbrev dktL_law_45 : List UInt8 := dkwL_law_45 ++ dktL_law_46
def dkwL_law_44 : List UInt8 := [21, 5, 4, 96, 46, 42, 21, 5, 5, 96, 46, 182, 0, 191, 54, 7, 44, 182, 0, 148, 21, 6]
abbrev dktL_law_44 : List UInt8 := dkwL_law_44 ++ dktL_law_45
def dkwL_law_43 : List UInt8 := [167, 5, 82, 43, 42, 21, 5, 4, 96, 46, 42, 21, 5, 5, 96, 46, 45, 184, 0, 189, 54, 6, 44, 42]
abbrev dktL_law_43 : List UInt8 := dkwL_law_43 ++ dktL_law_44
def dkwL_law_42 : List UInt8 := [159, 0, 5, 3, 172, 21, 6, 154, 0, 15, 45, 3, 47, 21, 7, 133, 148, 153, 0, 5, 3, 172]
abbrev dktL_law_42 : List UInt8 := dkwL_law_42 ++ dktL_law_43
def dkwL_law_41 : List UInt8 := [21, 5, 4, 96, 46, 42, 21, 5, 5, 96, 46, 182, 0, 188, 54, 7, 44, 182, 0, 148, 21, 6]
abbrev dktL_law_41 : List UInt8 := dkwL_law_41 ++ dktL_law_42
def dkwL_law_40 : List UInt8 := [167, 5, 150, 43, 42, 21, 5, 4, 96, 46, 42, 21, 5, 5, 96, 46, 45, 184, 0, 186, 54, 6, 44, 42]
abbrev dktL_law_40 : List UInt8 := dkwL_law_40 ++ dktL_law_41
def dkwL_law_39 : List UInt8 := [159, 0, 5, 3, 172, 21, 6, 154, 0, 15, 45, 3, 47, 21, 7, 133, 148, 153, 0, 5, 3, 172]
abbrev dktL_law_39 : List UInt8 := dkwL_law_39 ++ dktL_law_40
def dkwL_law_38 : List UInt8 := [21, 5, 4, 96, 46, 42, 21, 5, 5, 96, 46, 182, 0, 185, 54, 7, 44, 182, 0, 148, 21, 6]
abbrev dktL_law_38 : List UInt8 := dkwL_law_38 ++ dktL_law_39
def dkwL_law_37 : List UInt8 := [167, 5, 218, 43, 42, 21, 5, 4, 96, 46, 42, 21, 5, 5, 96, 46, 45, 184, 0, 183, 54, 6, 44, 42]
abbrev dktL_law_37 : List UInt8 := dkwL_law_37 ++ dktL_law_38
def dkwL_law_36 : List UInt8 := [159, 0, 5, 3, 172, 21, 6, 154, 0, 15, 45, 3, 47, 21, 7, 133, 148, 153, 0, 5, 3, 172]
abbrev dktL_law_36 : List UInt8 := dkwL_law_36 ++ dktL_law_37
def dkwL_law_35 : List UInt8 := [42, 21, 5, 5, 96, 46, 42, 21, 5, 6, 96, 46, 182, 0, 182, 54, 7, 44, 182, 0, 148, 21, 6]
abbrev dktL_law_35 : List UInt8 := dkwL_law_35 ++ dktL_law_36
def dkwL_law_34 : List UInt8 := [21, 5, 5, 96, 46, 42, 21, 5, 6, 96, 46, 45, 184, 0, 180, 54, 6, 44, 42, 21, 5, 4, 96, 46]
abbrev dktL_law_34 : List UInt8 := dkwL_law_34 ++ dktL_law_35
def dkwL_law_33 : List UInt8 := [45, 3, 47, 21, 7, 133, 148, 153, 0, 5, 3, 172, 167, 6, 42, 43, 42, 21, 5, 4, 96, 46, 42]
abbrev dktL_law_33 : List UInt8 := dkwL_law_33 ++ dktL_law_34
def dkwL_law_32 : List UInt8 := [7, 96, 46, 182, 0, 179, 54, 7, 44, 182, 0, 148, 21, 6, 159, 0, 5, 3, 172, 21, 6, 154, 0, 15]
abbrev dktL_law_32 : List UInt8 := dkwL_law_32 ++ dktL_law_33
def dkwL_law_31 : List UInt8 := [54, 6, 44, 42, 21, 5, 4, 96, 46, 42, 21, 5, 5, 96, 46, 42, 21, 5, 6, 96, 46, 42, 21, 5]
abbrev dktL_law_31 : List UInt8 := dkwL_law_31 ++ dktL_law_32
def dkwL_law_30 : List UInt8 := [46, 42, 21, 5, 5, 96, 46, 42, 21, 5, 6, 96, 46, 42, 21, 5, 7, 96, 46, 45, 184, 0, 176]
abbrev dktL_law_30 : List UInt8 := dkwL_law_30 ++ dktL_law_31
def dkwL_law_29 : List UInt8 := [154, 0, 15, 45, 3, 47, 21, 7, 133, 148, 153, 0, 5, 3, 172, 167, 6, 134, 43, 42, 21, 5, 4, 96]
abbrev dktL_law_29 : List UInt8 := dkwL_law_29 ++ dktL_law_30
def dkwL_law_28 : List UInt8 := [21, 5, 5, 96, 46, 182, 0, 175, 54, 7, 44, 182, 0, 148, 21, 6, 159, 0, 5, 3, 172, 21, 6]
abbrev dktL_law_28 : List UInt8 := dkwL_law_28 ++ dktL_law_29
def dkwL_law_27 : List UInt8 := [4, 96, 46, 42, 21, 5, 5, 96, 46, 45, 184, 0, 172, 54, 6, 44, 42, 21, 5, 4, 96, 46, 42]
abbrev dktL_law_27 : List UInt8 := dkwL_law_27 ++ dktL_law_28
def dkwL_law_26 : List UInt8 := [47, 21, 7, 153, 0, 7, 10, 167, 0, 4, 9, 148, 153, 0, 5, 3, 172, 167, 6, 202, 43, 42, 21, 5]
abbrev dktL_law_26 : List UInt8 := dkwL_law_26 ++ dktL_law_27
def dkwL_law_25 : List UInt8 := [3, 182, 0, 171, 54, 7, 44, 182, 0, 148, 21, 6, 159, 0, 5, 3, 172, 21, 6, 154, 0, 22, 45, 3]
abbrev dktL_law_25 : List UInt8 := dkwL_law_25 ++ dktL_law_26
def dkwL_law_24 : List UInt8 := [21, 5, 4, 96, 46, 42, 21, 5, 5, 96, 46, 42, 21, 5, 6, 96, 46, 153, 0, 7, 4, 167, 0, 4]
abbrev dktL_law_24 : List UInt8 := dkwL_law_24 ++ dktL_law_25
def dkwL_law_23 : List UInt8 := [96, 46, 42, 21, 5, 6, 96, 46, 153, 0, 7, 4, 167, 0, 4, 3, 45, 184, 0, 169, 54, 6, 44, 42]
abbrev dktL_law_23 : List UInt8 := dkwL_law_23 ++ dktL_law_24
def dkwL_law_22 : List UInt8 := [167, 0, 4, 9, 148, 153, 0, 5, 3, 172, 167, 7, 49, 43, 42, 21, 5, 4, 96, 46, 42, 21, 5, 5]
abbrev dktL_law_22 : List UInt8 := dkwL_law_22 ++ dktL_law_23
def dkwL_law_21 : List UInt8 := [182, 0, 148, 21, 6, 159, 0, 5, 3, 172, 21, 6, 154, 0, 22, 45, 3, 47, 21, 7, 153, 0, 7, 10]
abbrev dktL_law_21 : List UInt8 := dkwL_law_21 ++ dktL_law_22
def dkwL_law_20 : List UInt8 := [5, 96, 46, 42, 21, 5, 6, 96, 46, 153, 0, 7, 4, 167, 0, 4, 3, 182, 0, 168, 54, 7, 44]
abbrev dktL_law_20 : List UInt8 := dkwL_law_20 ++ dktL_law_21
def dkwL_law_19 : List UInt8 := [153, 0, 7, 4, 167, 0, 4, 3, 45, 184, 0, 165, 54, 6, 44, 42, 21, 5, 4, 96, 46, 42, 21, 5]
abbrev dktL_law_19 : List UInt8 := dkwL_law_19 ++ dktL_law_20
def dkwL_law_18 : List UInt8 := [167, 7, 152, 43, 42, 21, 5, 4, 96, 46, 42, 21, 5, 5, 96, 46, 42, 21, 5, 6, 96, 46]
abbrev dktL_law_18 : List UInt8 := dkwL_law_18 ++ dktL_law_19
def dkwL_law_17 : List UInt8 := [159, 0, 5, 3, 172, 21, 6, 154, 0, 15, 45, 3, 47, 21, 7, 133, 148, 153, 0, 5, 3, 172]
abbrev dktL_law_17 : List UInt8 := dkwL_law_17 ++ dktL_law_18
def dkwL_law_16 : List UInt8 := [167, 7, 196, 43, 45, 184, 0, 161, 54, 6, 44, 182, 0, 164, 54, 7, 44, 182, 0, 148, 21, 6]
abbrev dktL_law_16 : List UInt8 := dkwL_law_16 ++ dktL_law_17
def dkwL_law_15 : List UInt8 := [21, 6, 159, 0, 5, 3, 172, 21, 6, 154, 0, 15, 45, 3, 47, 21, 7, 133, 148, 153, 0, 5, 3, 172]
abbrev dktL_law_15 : List UInt8 := dkwL_law_15 ++ dktL_law_16
def dkwL_law_14 : List UInt8 := [46, 45, 184, 0, 157, 54, 6, 44, 42, 21, 5, 4, 96, 46, 182, 0, 160, 54, 7, 44, 182, 0, 148]
abbrev dktL_law_14 : List UInt8 := dkwL_law_14 ++ dktL_law_15
def dkwL_law_13 : List UInt8 := [154, 0, 15, 45, 3, 47, 21, 7, 133, 148, 153, 0, 5, 3, 172, 167, 7, 252, 43, 42, 21, 5, 4, 96]
abbrev dktL_law_13 : List UInt8 := dkwL_law_13 ++ dktL_law_14
def dkwL_law_12 : List UInt8 := [21, 5, 6, 96, 46, 182, 0, 156, 54, 7, 44, 182, 0, 148, 21, 6, 159, 0, 5, 3, 172, 21, 6]
abbrev dktL_law_12 : List UInt8 := dkwL_law_12 ++ dktL_law_13
def dkwL_law_11 : List UInt8 := [6, 96, 46, 45, 184, 0, 154, 54, 6, 44, 42, 21, 5, 4, 96, 46, 42, 21, 5, 5, 96, 46, 42]
abbrev dktL_law_11 : List UInt8 := dkwL_law_11 ++ dktL_law_12
def dkwL_law_10 : List UInt8 := [153, 0, 5, 3, 172, 167, 8, 76, 43, 42, 21, 5, 4, 96, 46, 42, 21, 5, 5, 96, 46, 42, 21, 5]
abbrev dktL_law_10 : List UInt8 := dkwL_law_10 ++ dktL_law_11
def dkwL_law_9 : List UInt8 := [182, 0, 148, 21, 6, 159, 0, 5, 3, 172, 21, 6, 154, 0, 15, 45, 3, 47, 21, 7, 133, 148]
abbrev dktL_law_9 : List UInt8 := dkwL_law_9 ++ dktL_law_10
def dkwL_law_8 : List UInt8 := [42, 21, 5, 4, 96, 46, 42, 21, 5, 5, 96, 46, 42, 21, 5, 6, 96, 46, 182, 0, 153, 54, 7, 44]
abbrev dktL_law_8 : List UInt8 := dkwL_law_8 ++ dktL_law_9
def dkwL_law_7 : List UInt8 := [21, 5, 4, 96, 46, 42, 21, 5, 5, 96, 46, 42, 21, 5, 6, 96, 46, 45, 184, 0, 151, 54, 6, 44]
abbrev dktL_law_7 : List UInt8 := dkwL_law_7 ++ dktL_law_8
def dkwL_law_6 : List UInt8 := [172, 21, 6, 154, 0, 15, 45, 3, 47, 21, 7, 133, 148, 153, 0, 5, 3, 172, 167, 8, 156, 43, 42]
abbrev dktL_law_6 : List UInt8 := dkwL_law_6 ++ dktL_law_7
def dkwL_law_5 : List UInt8 := [5, 96, 46, 42, 21, 5, 6, 96, 46, 182, 0, 147, 54, 7, 44, 182, 0, 148, 21, 6, 159, 0, 5, 3]
abbrev dktL_law_5 : List UInt8 := dkwL_law_5 ++ dktL_law_6
def dkwL_law_4 : List UInt8 := [96, 46, 42, 21, 5, 6, 96, 46, 45, 184, 0, 142, 54, 6, 44, 42, 21, 5, 4, 96, 46, 42, 21, 5]
abbrev dktL_law_4 : List UInt8 := dkwL_law_4 ++ dktL_law_5
def dkwL_law_3 : List UInt8 := [43, 182, 0, 138, 44, 182, 0, 141, 159, 8, 238, 3, 172, 43, 42, 21, 5, 4, 96, 46, 42, 21, 5, 5]
abbrev dktL_law_3 : List UInt8 := dkwL_law_3 ++ dktL_law_4
def dkwL_law_2 : List UInt8 := [170, 0, 0, 0, 0, 0, 9, 154, 0, 0, 0, 0, 0, 0, 0, 36, 0, 0, 0, 164, 0, 0, 0, 177, 0, 0, 1, 1, 0, 0, 1, 81, 0, 0, 1, 161, 0, 0, 1, 217, 0, 0, 2, 5, 0, 0, 2, 108, 0, 0, 2, 211, 0, 0, 3, 23, 0, 0, 3, 115, 0, 0, 3, 195, 0, 0, 4, 7, 0, 0, 4, 75, 0, 0, 4, 143, 0, 0, 4, 211, 0, 0, 5, 11, 0, 0, 5, 67, 0, 0, 5, 135, 0, 0, 5, 191, 0, 0, 5, 246, 0, 0, 6, 58, 0, 0, 6, 126, 0, 0, 6, 194, 0, 0, 7, 6, 0, 0, 7, 83, 0, 0, 7, 161, 0, 0, 7, 174, 0, 0, 7, 230, 0, 0, 8, 54, 0, 0, 8, 121, 0, 0, 8, 177, 0, 0, 8, 221, 0, 0, 9, 9, 0, 0, 9, 53, 0, 0, 9, 97, 0, 0, 9, 110]
abbrev dktL_law_2 : List UInt8 := dkwL_law_2 ++ dktL_law_3
def dkwL_law_1 : List UInt8 := [58, 4, 3, 54, 5, 21, 5, 42, 190, 8, 100, 163, 9, 170, 42, 21, 5, 46, 16, 63, 126]
abbrev dktL_law_1 : List UInt8 := dkwL_law_1 ++ dktL_law_2
def dkwL_law_0 : List UInt8 := [187, 0, 8, 89, 183, 0, 134, 76, 187, 0, 135, 89, 183, 0, 137, 77, 4, 188, 11, 78, 4, 188, 7]
abbrev dktL_law_0 : List UInt8 := dkwL_law_0 ++ dktL_law_1
theorem dksL_law_0 : cL_law.data.toList.drop 0 = dktL_law_0 := by decide +kernel
theorem dksL_law_1 : cL_law.data.toList.drop 23 = dktL_law_1 := dk_seg dksL_law_0 23 rfl rfl
theorem dksL_law_2 : cL_law.data.toList.drop 44 = dktL_law_2 := dk_seg dksL_law_1 21 rfl rfl
theorem dksL_law_3 : cL_law.data.toList.drop 208 = dktL_law_3 := dk_seg dksL_law_2 164 rfl rfl
theorem dksL_law_4 : cL_law.data.toList.drop 232 = dktL_law_4 := dk_seg dksL_law_3 24 rfl rfl
theorem dksL_law_5 : cL_law.data.toList.drop 256 = dktL_law_5 := dk_seg dksL_law_4 24 rfl rfl
theorem dksL_law_6 : cL_law.data.toList.drop 280 = dktL_law_6 := dk_seg dksL_law_5 24 rfl rfl
theorem dksL_law_7 : cL_law.data.toList.drop 303 = dktL_law_7 := dk_seg dksL_law_6 23 rfl rfl
theorem dksL_law_8 : cL_law.data.toList.drop 327 = dktL_law_8 := dk_seg dksL_law_7 24 rfl rfl
theorem dksL_law_9 : cL_law.data.toList.drop 351 = dktL_law_9 := dk_seg dksL_law_8 24 rfl rfl
theorem dksL_law_10 : cL_law.data.toList.drop 373 = dktL_law_10 := dk_seg dksL_law_9 22 rfl rfl
theorem dksL_law_11 : cL_law.data.toList.drop 397 = dktL_law_11 := dk_seg dksL_law_10 24 rfl rfl
theorem dksL_law_12 : cL_law.data.toList.drop 420 = dktL_law_12 := dk_seg dksL_law_11 23 rfl rfl
theorem dksL_law_13 : cL_law.data.toList.drop 443 = dktL_law_13 := dk_seg dksL_law_12 23 rfl rfl
theorem dksL_law_14 : cL_law.data.toList.drop 467 = dktL_law_14 := dk_seg dksL_law_13 24 rfl rfl
theorem dksL_law_15 : cL_law.data.toList.drop 490 = dktL_law_15 := dk_seg dksL_law_14 23 rfl rfl
theorem dksL_law_16 : cL_law.data.toList.drop 514 = dktL_law_16 := dk_seg dksL_law_15 24 rfl rfl
theorem dksL_law_17 : cL_law.data.toList.drop 536 = dktL_law_17 := dk_seg dksL_law_16 22 rfl rfl
theorem dksL_law_18 : cL_law.data.toList.drop 558 = dktL_law_18 := dk_seg dksL_law_17 22 rfl rfl
theorem dksL_law_19 : cL_law.data.toList.drop 580 = dktL_law_19 := dk_seg dksL_law_18 22 rfl rfl
theorem dksL_law_20 : cL_law.data.toList.drop 604 = dktL_law_20 := dk_seg dksL_law_19 24 rfl rfl
theorem dksL_law_21 : cL_law.data.toList.drop 627 = dktL_law_21 := dk_seg dksL_law_20 23 rfl rfl
theorem dksL_law_22 : cL_law.data.toList.drop 651 = dktL_law_22 := dk_seg dksL_law_21 24 rfl rfl
theorem dksL_law_23 : cL_law.data.toList.drop 675 = dktL_law_23 := dk_seg dksL_law_22 24 rfl rfl
theorem dksL_law_24 : cL_law.data.toList.drop 699 = dktL_law_24 := dk_seg dksL_law_23 24 rfl rfl
theorem dksL_law_25 : cL_law.data.toList.drop 723 = dktL_law_25 := dk_seg dksL_law_24 24 rfl rfl
theorem dksL_law_26 : cL_law.data.toList.drop 747 = dktL_law_26 := dk_seg dksL_law_25 24 rfl rfl
theorem dksL_law_27 : cL_law.data.toList.drop 771 = dktL_law_27 := dk_seg dksL_law_26 24 rfl rfl
theorem dksL_law_28 : cL_law.data.toList.drop 794 = dktL_law_28 := dk_seg dksL_law_27 23 rfl rfl
theorem dksL_law_29 : cL_law.data.toList.drop 817 = dktL_law_29 := dk_seg dksL_law_28 23 rfl rfl
theorem dksL_law_30 : cL_law.data.toList.drop 841 = dktL_law_30 := dk_seg dksL_law_29 24 rfl rfl
theorem dksL_law_31 : cL_law.data.toList.drop 864 = dktL_law_31 := dk_seg dksL_law_30 23 rfl rfl
theorem dksL_law_32 : cL_law.data.toList.drop 888 = dktL_law_32 := dk_seg dksL_law_31 24 rfl rfl
theorem dksL_law_33 : cL_law.data.toList.drop 912 = dktL_law_33 := dk_seg dksL_law_32 24 rfl rfl
theorem dksL_law_34 : cL_law.data.toList.drop 935 = dktL_law_34 := dk_seg dksL_law_33 23 rfl rfl
theorem dksL_law_35 : cL_law.data.toList.drop 959 = dktL_law_35 := dk_seg dksL_law_34 24 rfl rfl
theorem dksL_law_36 : cL_law.data.toList.drop 982 = dktL_law_36 := dk_seg dksL_law_35 23 rfl rfl
theorem dksL_law_37 : cL_law.data.toList.drop 1004 = dktL_law_37 := dk_seg dksL_law_36 22 rfl rfl
theorem dksL_law_38 : cL_law.data.toList.drop 1028 = dktL_law_38 := dk_seg dksL_law_37 24 rfl rfl
theorem dksL_law_39 : cL_law.data.toList.drop 1050 = dktL_law_39 := dk_seg dksL_law_38 22 rfl rfl
theorem dksL_law_40 : cL_law.data.toList.drop 1072 = dktL_law_40 := dk_seg dksL_law_39 22 rfl rfl
theorem dksL_law_41 : cL_law.data.toList.drop 1096 = dktL_law_41 := dk_seg dksL_law_40 24 rfl rfl
theorem dksL_law_42 : cL_law.data.toList.drop 1118 = dktL_law_42 := dk_seg dksL_law_41 22 rfl rfl
theorem dksL_law_43 : cL_law.data.toList.drop 1140 = dktL_law_43 := dk_seg dksL_law_42 22 rfl rfl
theorem dksL_law_44 : cL_law.data.toList.drop 1164 = dktL_law_44 := dk_seg dksL_law_43 24 rfl rfl
theorem dksL_law_45 : cL_law.data.toList.drop 1186 = dktL_law_45 := dk_seg dksL_law_44 22 rfl rfl
theorem dksL_law_46 : cL_law.data.toList.drop 1208 = dktL_law_46 := dk_seg dksL_law_45 22 rfl rfl
theorem dksL_law_47 : cL_law.data.toList.drop 1232 = dktL_law_47 := dk_seg dksL_law_46 24 rfl rfl
theorem dksL_law_48 : cL_law.data.toList.drop 1254 = dktL_law_48 := dk_seg dksL_law_47 22 rfl rfl
theorem dksL_law_49 : cL_law.data.toList.drop 1276 = dktL_law_49 := dk_seg dksL_law_48 22 rfl rfl
theorem dksL_law_50 : cL_law.data.toList.drop 1299 = dktL_law_50 := dk_seg dksL_law_49 23 rfl rfl
theorem dksL_law_51 : cL_law.data.toList.drop 1323 = dktL_law_51 := dk_seg dksL_law_50 24 rfl rfl
theorem dksL_law_52 : cL_law.data.toList.drop 1346 = dktL_law_52 := dk_seg dksL_law_51 23 rfl rfl
theorem dksL_law_53 : cL_law.data.toList.drop 1370 = dktL_law_53 := dk_seg dksL_law_52 24 rfl rfl
theorem dksL_law_54 : cL_law.data.toList.drop 1393 = dktL_law_54 := dk_seg dksL_law_53 23 rfl rfl
theorem dksL_law_55 : cL_law.data.toList.drop 1417 = dktL_law_55 := dk_seg dksL_law_54 24 rfl rfl
theorem dksL_law_56 : cL_law.data.toList.drop 1441 = dktL_law_56 := dk_seg dksL_law_55 24 rfl rfl
theorem dksL_law_57 : cL_law.data.toList.drop 1465 = dktL_law_57 := dk_seg dksL_law_56 24 rfl rfl
theorem dksL_law_58 : cL_law.data.toList.drop 1488 = dktL_law_58 := dk_seg dksL_law_57 23 rfl rfl
theorem dksL_law_59 : cL_law.data.toList.drop 1512 = dktL_law_59 := dk_seg dksL_law_58 24 rfl rfl
theorem dksL_law_60 : cL_law.data.toList.drop 1535 = dktL_law_60 := dk_seg dksL_law_59 23 rfl rfl
theorem dksL_law_61 : cL_law.data.toList.drop 1559 = dktL_law_61 := dk_seg dksL_law_60 24 rfl rfl
theorem dksL_law_62 : cL_law.data.toList.drop 1583 = dktL_law_62 := dk_seg dksL_law_61 24 rfl rfl
theorem dksL_law_63 : cL_law.data.toList.drop 1607 = dktL_law_63 := dk_seg dksL_law_62 24 rfl rfl
theorem dksL_law_64 : cL_law.data.toList.drop 1630 = dktL_law_64 := dk_seg dksL_law_63 23 rfl rfl
theorem dksL_law_65 : cL_law.data.toList.drop 1652 = dktL_law_65 := dk_seg dksL_law_64 22 rfl rfl
theorem dksL_law_66 : cL_law.data.toList.drop 1676 = dktL_law_66 := dk_seg dksL_law_65 24 rfl rfl
theorem dksL_law_67 : cL_law.data.toList.drop 1698 = dktL_law_67 := dk_seg dksL_law_66 22 rfl rfl
theorem dksL_law_68 : cL_law.data.toList.drop 1720 = dktL_law_68 := dk_seg dksL_law_67 22 rfl rfl
theorem dksL_law_69 : cL_law.data.toList.drop 1744 = dktL_law_69 := dk_seg dksL_law_68 24 rfl rfl
theorem dksL_law_70 : cL_law.data.toList.drop 1766 = dktL_law_70 := dk_seg dksL_law_69 22 rfl rfl
theorem dksL_law_71 : cL_law.data.toList.drop 1788 = dktL_law_71 := dk_seg dksL_law_70 22 rfl rfl
theorem dksL_law_72 : cL_law.data.toList.drop 1812 = dktL_law_72 := dk_seg dksL_law_71 24 rfl rfl
theorem dksL_law_73 : cL_law.data.toList.drop 1834 = dktL_law_73 := dk_seg dksL_law_72 22 rfl rfl
theorem dksL_law_74 : cL_law.data.toList.drop 1858 = dktL_law_74 := dk_seg dksL_law_73 24 rfl rfl
theorem dksL_law_75 : cL_law.data.toList.drop 1881 = dktL_law_75 := dk_seg dksL_law_74 23 rfl rfl
theorem dksL_law_76 : cL_law.data.toList.drop 1903 = dktL_law_76 := dk_seg dksL_law_75 22 rfl rfl
theorem dksL_law_77 : cL_law.data.toList.drop 1926 = dktL_law_77 := dk_seg dksL_law_76 23 rfl rfl
theorem dksL_law_78 : cL_law.data.toList.drop 1949 = dktL_law_78 := dk_seg dksL_law_77 23 rfl rfl
theorem dksL_law_79 : cL_law.data.toList.drop 1972 = dktL_law_79 := dk_seg dksL_law_78 23 rfl rfl
theorem dksL_law_80 : cL_law.data.toList.drop 1994 = dktL_law_80 := dk_seg dksL_law_79 22 rfl rfl
theorem dksL_law_81 : cL_law.data.toList.drop 2018 = dktL_law_81 := dk_seg dksL_law_80 24 rfl rfl
theorem dksL_law_82 : cL_law.data.toList.drop 2041 = dktL_law_82 := dk_seg dksL_law_81 23 rfl rfl
theorem dksL_law_83 : cL_law.data.toList.drop 2063 = dktL_law_83 := dk_seg dksL_law_82 22 rfl rfl
theorem dksL_law_84 : cL_law.data.toList.drop 2086 = dktL_law_84 := dk_seg dksL_law_83 23 rfl rfl
theorem dksL_law_85 : cL_law.data.toList.drop 2110 = dktL_law_85 := dk_seg dksL_law_84 24 rfl rfl
theorem dksL_law_86 : cL_law.data.toList.drop 2134 = dktL_law_86 := dk_seg dksL_law_85 24 rfl rfl
theorem dksL_law_87 : cL_law.data.toList.drop 2158 = dktL_law_87 := dk_seg dksL_law_86 24 rfl rfl
theorem dksL_law_88 : cL_law.data.toList.drop 2181 = dktL_law_88 := dk_seg dksL_law_87 23 rfl rfl
theorem dksL_law_89 : cL_law.data.toList.drop 2205 = dktL_law_89 := dk_seg dksL_law_88 24 rfl rfl
theorem dksL_law_90 : cL_law.data.toList.drop 2228 = dktL_law_90 := dk_seg dksL_law_89 23 rfl rfl
theorem dksL_law_91 : cL_law.data.toList.drop 2251 = dktL_law_91 := dk_seg dksL_law_90 23 rfl rfl
theorem dksL_law_92 : cL_law.data.toList.drop 2274 = dktL_law_92 := dk_seg dksL_law_91 23 rfl rfl
theorem dksL_law_93 : cL_law.data.toList.drop 2298 = dktL_law_93 := dk_seg dksL_law_92 24 rfl rfl
theorem dksL_law_94 : cL_law.data.toList.drop 2321 = dktL_law_94 := dk_seg dksL_law_93 23 rfl rfl
theorem dksL_law_95 : cL_law.data.toList.drop 2345 = dktL_law_95 := dk_seg dksL_law_94 24 rfl rfl
theorem dksL_law_96 : cL_law.data.toList.drop 2368 = dktL_law_96 := dk_seg dksL_law_95 23 rfl rfl
theorem dksL_law_97 : cL_law.data.toList.drop 2392 = dktL_law_97 := dk_seg dksL_law_96 24 rfl rfl
theorem dksL_law_98 : cL_law.data.toList.drop 2415 = dktL_law_98 := dk_seg dksL_law_97 23 rfl rfl
theorem dksL_law_99 : cL_law.data.toList.drop 2437 = dktL_law_99 := dk_seg dksL_law_98 22 rfl rfl
theorem dksL_law_100 : cL_law.data.toList.drop 2460 = dktL_law_100 := dk_seg dksL_law_99 23 rfl rfl
theorem dksL_law_101 : cL_law.data.toList.drop 2484 = dktL_law_101 := dk_seg dksL_law_100 24 rfl rfl
theorem dksL_law_102 : cL_law.data.toList.drop 2508 = dktL_law_102 := dk_seg dksL_law_101 24 rfl rfl
theorem dL_law_0 : decode cL_law 0 = .ok (.new 8, 3) := dk_187 0 8 (dk_at dksL_law_0 0 rfl rfl)
theorem dL_law_3 : decode cL_law 3 = .ok (.dup, 1) := dk_89 (dk_at dksL_law_0 3 rfl rfl)
theorem dL_law_4 : decode cL_law 4 = .ok (.invokespecial 134, 3) := dk_183 0 134 (dk_at dksL_law_0 4 rfl rfl)
theorem dL_law_7 : decode cL_law 7 = .ok (.astore_n 1, 1) := dk_76 (dk_at dksL_law_0 7 rfl rfl)
theorem dL_law_8 : decode cL_law 8 = .ok (.new 135, 3) := dk_187 0 135 (dk_at dksL_law_0 8 rfl rfl)
theorem dL_law_11 : decode cL_law 11 = .ok (.dup, 1) := dk_89 (dk_at dksL_law_0 11 rfl rfl)
theorem dL_law_12 : decode cL_law 12 = .ok (.invokespecial 137, 3) := dk_183 0 137 (dk_at dksL_law_0 12 rfl rfl)
theorem dL_law_15 : decode cL_law 15 = .ok (.astore_n 2, 1) := dk_77 (dk_at dksL_law_0 15 rfl rfl)
theorem dL_law_16 : decode cL_law 16 = .ok (.iconst 1, 1) := dk_4 (dk_at dksL_law_0 16 rfl rfl)
theorem dL_law_17 : decode cL_law 17 = .ok (.newarray .long, 2) := dk_188_11 (dk_at dksL_law_0 17 rfl rfl)
theorem dL_law_19 : decode cL_law 19 = .ok (.astore_n 3, 1) := dk_78 (dk_at dksL_law_0 19 rfl rfl)
theorem dL_law_20 : decode cL_law 20 = .ok (.iconst 1, 1) := dk_4 (dk_at dksL_law_0 20 rfl rfl)
theorem dL_law_21 : decode cL_law 21 = .ok (.newarray .double, 2) := dk_188_7 (dk_at dksL_law_0 21 rfl rfl)
theorem dL_law_23 : decode cL_law 23 = .ok (.astore 4, 2) := dk_58 4 (dk_at dksL_law_1 0 rfl rfl)
theorem dL_law_25 : decode cL_law 25 = .ok (.iconst 0, 1) := dk_3 (dk_at dksL_law_1 2 rfl rfl)
theorem dL_law_26 : decode cL_law 26 = .ok (.istore 5, 2) := dk_54 5 (dk_at dksL_law_1 3 rfl rfl)
theorem dL_law_28 : decode cL_law 28 = .ok (.iload 5, 2) := dk_21 5 (dk_at dksL_law_1 5 rfl rfl)
theorem dL_law_30 : decode cL_law 30 = .ok (.aload_n 0, 1) := dk_42 (dk_at dksL_law_1 7 rfl rfl)
theorem dL_law_31 : decode cL_law 31 = .ok (.arraylength, 1) := dk_190 (dk_at dksL_law_1 8 rfl rfl)
theorem dL_law_32 : decode cL_law 32 = .ok (.iconst 5, 1) := dk_8 (dk_at dksL_law_1 9 rfl rfl)
theorem dL_law_33 : decode cL_law 33 = .ok (.isub, 1) := dk_100 (dk_at dksL_law_1 10 rfl rfl)
theorem dL_law_34 : decode cL_law 34 = .ok (.if_icmp .gt 2474, 3) := dk_163 9 170 (dk_at dksL_law_1 11 rfl rfl)
theorem dL_law_37 : decode cL_law 37 = .ok (.aload_n 0, 1) := dk_42 (dk_at dksL_law_1 14 rfl rfl)
theorem dL_law_38 : decode cL_law 38 = .ok (.iload 5, 2) := dk_21 5 (dk_at dksL_law_1 15 rfl rfl)
theorem dL_law_40 : decode cL_law 40 = .ok (.iaload, 1) := dk_46 (dk_at dksL_law_1 17 rfl rfl)
theorem dL_law_41 : decode cL_law 41 = .ok (.bipush 63, 2) := dk_16 63 (dk_at dksL_law_1 18 rfl rfl)
theorem dL_law_43 : decode cL_law 43 = .ok (.iand, 1) := dk_126 (dk_at dksL_law_1 20 rfl rfl)
theorem dL_law_44 : decode cL_law 44 = .ok (.tableswitch 2458 0 36 #[164, 177, 257, 337, 417, 473, 517, 620, 723, 791, 883, 963, 1031, 1099, 1167, 1235, 1291, 1347, 1415, 1471, 1526, 1594, 1662, 1730, 1798, 1875, 1953, 1966, 2022, 2102, 2169, 2225, 2269, 2313, 2357, 2401, 2414], 164) := by decide +kernel
theorem dL_law_208 : decode cL_law 208 = .ok (.aload_n 1, 1) := dk_43 (dk_at dksL_law_3 0 rfl rfl)
theorem dL_law_209 : decode cL_law 209 = .ok (.invokevirtual 138, 3) := dk_182 0 138 (dk_at dksL_law_3 1 rfl rfl)
theorem dL_law_212 : decode cL_law 212 = .ok (.aload_n 2, 1) := dk_44 (dk_at dksL_law_3 4 rfl rfl)
theorem dL_law_213 : decode cL_law 213 = .ok (.invokevirtual 141, 3) := dk_182 0 141 (dk_at dksL_law_3 5 rfl rfl)
theorem dL_law_216 : decode cL_law 216 = .ok (.if_icmp .eq 2286, 3) := dk_159 8 238 (dk_at dksL_law_3 8 rfl rfl)
theorem dL_law_219 : decode cL_law 219 = .ok (.iconst 0, 1) := dk_3 (dk_at dksL_law_3 11 rfl rfl)
theorem dL_law_220 : decode cL_law 220 = .ok (.ireturn, 1) := dk_172 (dk_at dksL_law_3 12 rfl rfl)
theorem dL_law_221 : decode cL_law 221 = .ok (.aload_n 1, 1) := dk_43 (dk_at dksL_law_3 13 rfl rfl)
theorem dL_law_222 : decode cL_law 222 = .ok (.aload_n 0, 1) := dk_42 (dk_at dksL_law_3 14 rfl rfl)
theorem dL_law_223 : decode cL_law 223 = .ok (.iload 5, 2) := dk_21 5 (dk_at dksL_law_3 15 rfl rfl)
theorem dL_law_225 : decode cL_law 225 = .ok (.iconst 1, 1) := dk_4 (dk_at dksL_law_3 17 rfl rfl)
theorem dL_law_226 : decode cL_law 226 = .ok (.iadd, 1) := dk_96 (dk_at dksL_law_3 18 rfl rfl)
theorem dL_law_227 : decode cL_law 227 = .ok (.iaload, 1) := dk_46 (dk_at dksL_law_3 19 rfl rfl)
theorem dL_law_228 : decode cL_law 228 = .ok (.aload_n 0, 1) := dk_42 (dk_at dksL_law_3 20 rfl rfl)
theorem dL_law_229 : decode cL_law 229 = .ok (.iload 5, 2) := dk_21 5 (dk_at dksL_law_3 21 rfl rfl)
theorem dL_law_231 : decode cL_law 231 = .ok (.iconst 2, 1) := dk_5 (dk_at dksL_law_3 23 rfl rfl)
theorem dL_law_232 : decode cL_law 232 = .ok (.iadd, 1) := dk_96 (dk_at dksL_law_4 0 rfl rfl)
theorem dL_law_233 : decode cL_law 233 = .ok (.iaload, 1) := dk_46 (dk_at dksL_law_4 1 rfl rfl)
theorem dL_law_234 : decode cL_law 234 = .ok (.aload_n 0, 1) := dk_42 (dk_at dksL_law_4 2 rfl rfl)
theorem dL_law_235 : decode cL_law 235 = .ok (.iload 5, 2) := dk_21 5 (dk_at dksL_law_4 3 rfl rfl)
theorem dL_law_237 : decode cL_law 237 = .ok (.iconst 3, 1) := dk_6 (dk_at dksL_law_4 5 rfl rfl)
theorem dL_law_238 : decode cL_law 238 = .ok (.iadd, 1) := dk_96 (dk_at dksL_law_4 6 rfl rfl)
theorem dL_law_239 : decode cL_law 239 = .ok (.iaload, 1) := dk_46 (dk_at dksL_law_4 7 rfl rfl)
theorem dL_law_240 : decode cL_law 240 = .ok (.aload_n 3, 1) := dk_45 (dk_at dksL_law_4 8 rfl rfl)
theorem dL_law_241 : decode cL_law 241 = .ok (.invokestatic 142, 3) := dk_184 0 142 (dk_at dksL_law_4 9 rfl rfl)
theorem dL_law_244 : decode cL_law 244 = .ok (.istore 6, 2) := dk_54 6 (dk_at dksL_law_4 12 rfl rfl)
theorem dL_law_246 : decode cL_law 246 = .ok (.aload_n 2, 1) := dk_44 (dk_at dksL_law_4 14 rfl rfl)
theorem dL_law_247 : decode cL_law 247 = .ok (.aload_n 0, 1) := dk_42 (dk_at dksL_law_4 15 rfl rfl)
theorem dL_law_248 : decode cL_law 248 = .ok (.iload 5, 2) := dk_21 5 (dk_at dksL_law_4 16 rfl rfl)
theorem dL_law_250 : decode cL_law 250 = .ok (.iconst 1, 1) := dk_4 (dk_at dksL_law_4 18 rfl rfl)
theorem dL_law_251 : decode cL_law 251 = .ok (.iadd, 1) := dk_96 (dk_at dksL_law_4 19 rfl rfl)
theorem dL_law_252 : decode cL_law 252 = .ok (.iaload, 1) := dk_46 (dk_at dksL_law_4 20 rfl rfl)
theorem dL_law_253 : decode cL_law 253 = .ok (.aload_n 0, 1) := dk_42 (dk_at dksL_law_4 21 rfl rfl)
theorem dL_law_254 : decode cL_law 254 = .ok (.iload 5, 2) := dk_21 5 (dk_at dksL_law_4 22 rfl rfl)
theorem dL_law_256 : decode cL_law 256 = .ok (.iconst 2, 1) := dk_5 (dk_at dksL_law_5 0 rfl rfl)
theorem dL_law_257 : decode cL_law 257 = .ok (.iadd, 1) := dk_96 (dk_at dksL_law_5 1 rfl rfl)
theorem dL_law_258 : decode cL_law 258 = .ok (.iaload, 1) := dk_46 (dk_at dksL_law_5 2 rfl rfl)
theorem dL_law_259 : decode cL_law 259 = .ok (.aload_n 0, 1) := dk_42 (dk_at dksL_law_5 3 rfl rfl)
theorem dL_law_260 : decode cL_law 260 = .ok (.iload 5, 2) := dk_21 5 (dk_at dksL_law_5 4 rfl rfl)
theorem dL_law_262 : decode cL_law 262 = .ok (.iconst 3, 1) := dk_6 (dk_at dksL_law_5 6 rfl rfl)
theorem dL_law_263 : decode cL_law 263 = .ok (.iadd, 1) := dk_96 (dk_at dksL_law_5 7 rfl rfl)
theorem dL_law_264 : decode cL_law 264 = .ok (.iaload, 1) := dk_46 (dk_at dksL_law_5 8 rfl rfl)
theorem dL_law_265 : decode cL_law 265 = .ok (.invokevirtual 147, 3) := dk_182 0 147 (dk_at dksL_law_5 9 rfl rfl)
theorem dL_law_268 : decode cL_law 268 = .ok (.istore 7, 2) := dk_54 7 (dk_at dksL_law_5 12 rfl rfl)
theorem dL_law_270 : decode cL_law 270 = .ok (.aload_n 2, 1) := dk_44 (dk_at dksL_law_5 14 rfl rfl)
theorem dL_law_271 : decode cL_law 271 = .ok (.invokevirtual 148, 3) := dk_182 0 148 (dk_at dksL_law_5 15 rfl rfl)
theorem dL_law_274 : decode cL_law 274 = .ok (.iload 6, 2) := dk_21 6 (dk_at dksL_law_5 18 rfl rfl)
theorem dL_law_276 : decode cL_law 276 = .ok (.if_icmp .eq 5, 3) := dk_159 0 5 (dk_at dksL_law_5 20 rfl rfl)
theorem dL_law_279 : decode cL_law 279 = .ok (.iconst 0, 1) := dk_3 (dk_at dksL_law_5 23 rfl rfl)
theorem dL_law_280 : decode cL_law 280 = .ok (.ireturn, 1) := dk_172 (dk_at dksL_law_6 0 rfl rfl)
theorem dL_law_281 : decode cL_law 281 = .ok (.iload 6, 2) := dk_21 6 (dk_at dksL_law_6 1 rfl rfl)
theorem dL_law_283 : decode cL_law 283 = .ok (.ifCond .ne 15, 3) := dk_154 0 15 (dk_at dksL_law_6 3 rfl rfl)
theorem dL_law_286 : decode cL_law 286 = .ok (.aload_n 3, 1) := dk_45 (dk_at dksL_law_6 6 rfl rfl)
theorem dL_law_287 : decode cL_law 287 = .ok (.iconst 0, 1) := dk_3 (dk_at dksL_law_6 7 rfl rfl)
theorem dL_law_288 : decode cL_law 288 = .ok (.laload, 1) := dk_47 (dk_at dksL_law_6 8 rfl rfl)
theorem dL_law_289 : decode cL_law 289 = .ok (.iload 7, 2) := dk_21 7 (dk_at dksL_law_6 9 rfl rfl)
theorem dL_law_291 : decode cL_law 291 = .ok (.i2l, 1) := dk_133 (dk_at dksL_law_6 11 rfl rfl)
theorem dL_law_292 : decode cL_law 292 = .ok (.lcmp, 1) := dk_148 (dk_at dksL_law_6 12 rfl rfl)
theorem dL_law_293 : decode cL_law 293 = .ok (.ifCond .eq 5, 3) := dk_153 0 5 (dk_at dksL_law_6 13 rfl rfl)
theorem dL_law_296 : decode cL_law 296 = .ok (.iconst 0, 1) := dk_3 (dk_at dksL_law_6 16 rfl rfl)
theorem dL_law_297 : decode cL_law 297 = .ok (.ireturn, 1) := dk_172 (dk_at dksL_law_6 17 rfl rfl)
theorem dL_law_298 : decode cL_law 298 = .ok (.goto 2204, 3) := dk_167 8 156 (dk_at dksL_law_6 18 rfl rfl)
theorem dL_law_301 : decode cL_law 301 = .ok (.aload_n 1, 1) := dk_43 (dk_at dksL_law_6 21 rfl rfl)
theorem dL_law_302 : decode cL_law 302 = .ok (.aload_n 0, 1) := dk_42 (dk_at dksL_law_6 22 rfl rfl)
theorem dL_law_303 : decode cL_law 303 = .ok (.iload 5, 2) := dk_21 5 (dk_at dksL_law_7 0 rfl rfl)
theorem dL_law_305 : decode cL_law 305 = .ok (.iconst 1, 1) := dk_4 (dk_at dksL_law_7 2 rfl rfl)
theorem dL_law_306 : decode cL_law 306 = .ok (.iadd, 1) := dk_96 (dk_at dksL_law_7 3 rfl rfl)
theorem dL_law_307 : decode cL_law 307 = .ok (.iaload, 1) := dk_46 (dk_at dksL_law_7 4 rfl rfl)
theorem dL_law_308 : decode cL_law 308 = .ok (.aload_n 0, 1) := dk_42 (dk_at dksL_law_7 5 rfl rfl)
theorem dL_law_309 : decode cL_law 309 = .ok (.iload 5, 2) := dk_21 5 (dk_at dksL_law_7 6 rfl rfl)
theorem dL_law_311 : decode cL_law 311 = .ok (.iconst 2, 1) := dk_5 (dk_at dksL_law_7 8 rfl rfl)
theorem dL_law_312 : decode cL_law 312 = .ok (.iadd, 1) := dk_96 (dk_at dksL_law_7 9 rfl rfl)
theorem dL_law_313 : decode cL_law 313 = .ok (.iaload, 1) := dk_46 (dk_at dksL_law_7 10 rfl rfl)
theorem dL_law_314 : decode cL_law 314 = .ok (.aload_n 0, 1) := dk_42 (dk_at dksL_law_7 11 rfl rfl)
theorem dL_law_315 : decode cL_law 315 = .ok (.iload 5, 2) := dk_21 5 (dk_at dksL_law_7 12 rfl rfl)
theorem dL_law_317 : decode cL_law 317 = .ok (.iconst 3, 1) := dk_6 (dk_at dksL_law_7 14 rfl rfl)
theorem dL_law_318 : decode cL_law 318 = .ok (.iadd, 1) := dk_96 (dk_at dksL_law_7 15 rfl rfl)
theorem dL_law_319 : decode cL_law 319 = .ok (.iaload, 1) := dk_46 (dk_at dksL_law_7 16 rfl rfl)
theorem dL_law_320 : decode cL_law 320 = .ok (.aload_n 3, 1) := dk_45 (dk_at dksL_law_7 17 rfl rfl)
theorem dL_law_321 : decode cL_law 321 = .ok (.invokestatic 151, 3) := dk_184 0 151 (dk_at dksL_law_7 18 rfl rfl)
theorem dL_law_324 : decode cL_law 324 = .ok (.istore 6, 2) := dk_54 6 (dk_at dksL_law_7 21 rfl rfl)
theorem dL_law_326 : decode cL_law 326 = .ok (.aload_n 2, 1) := dk_44 (dk_at dksL_law_7 23 rfl rfl)
theorem dL_law_327 : decode cL_law 327 = .ok (.aload_n 0, 1) := dk_42 (dk_at dksL_law_8 0 rfl rfl)
theorem dL_law_328 : decode cL_law 328 = .ok (.iload 5, 2) := dk_21 5 (dk_at dksL_law_8 1 rfl rfl)
theorem dL_law_330 : decode cL_law 330 = .ok (.iconst 1, 1) := dk_4 (dk_at dksL_law_8 3 rfl rfl)
theorem dL_law_331 : decode cL_law 331 = .ok (.iadd, 1) := dk_96 (dk_at dksL_law_8 4 rfl rfl)
theorem dL_law_332 : decode cL_law 332 = .ok (.iaload, 1) := dk_46 (dk_at dksL_law_8 5 rfl rfl)
theorem dL_law_333 : decode cL_law 333 = .ok (.aload_n 0, 1) := dk_42 (dk_at dksL_law_8 6 rfl rfl)
theorem dL_law_334 : decode cL_law 334 = .ok (.iload 5, 2) := dk_21 5 (dk_at dksL_law_8 7 rfl rfl)
theorem dL_law_336 : decode cL_law 336 = .ok (.iconst 2, 1) := dk_5 (dk_at dksL_law_8 9 rfl rfl)
theorem dL_law_337 : decode cL_law 337 = .ok (.iadd, 1) := dk_96 (dk_at dksL_law_8 10 rfl rfl)
theorem dL_law_338 : decode cL_law 338 = .ok (.iaload, 1) := dk_46 (dk_at dksL_law_8 11 rfl rfl)
theorem dL_law_339 : decode cL_law 339 = .ok (.aload_n 0, 1) := dk_42 (dk_at dksL_law_8 12 rfl rfl)
theorem dL_law_340 : decode cL_law 340 = .ok (.iload 5, 2) := dk_21 5 (dk_at dksL_law_8 13 rfl rfl)
theorem dL_law_342 : decode cL_law 342 = .ok (.iconst 3, 1) := dk_6 (dk_at dksL_law_8 15 rfl rfl)
theorem dL_law_343 : decode cL_law 343 = .ok (.iadd, 1) := dk_96 (dk_at dksL_law_8 16 rfl rfl)
theorem dL_law_344 : decode cL_law 344 = .ok (.iaload, 1) := dk_46 (dk_at dksL_law_8 17 rfl rfl)
theorem dL_law_345 : decode cL_law 345 = .ok (.invokevirtual 153, 3) := dk_182 0 153 (dk_at dksL_law_8 18 rfl rfl)
theorem dL_law_348 : decode cL_law 348 = .ok (.istore 7, 2) := dk_54 7 (dk_at dksL_law_8 21 rfl rfl)
theorem dL_law_350 : decode cL_law 350 = .ok (.aload_n 2, 1) := dk_44 (dk_at dksL_law_8 23 rfl rfl)
theorem dL_law_351 : decode cL_law 351 = .ok (.invokevirtual 148, 3) := dk_182 0 148 (dk_at dksL_law_9 0 rfl rfl)
theorem dL_law_354 : decode cL_law 354 = .ok (.iload 6, 2) := dk_21 6 (dk_at dksL_law_9 3 rfl rfl)
theorem dL_law_356 : decode cL_law 356 = .ok (.if_icmp .eq 5, 3) := dk_159 0 5 (dk_at dksL_law_9 5 rfl rfl)
theorem dL_law_359 : decode cL_law 359 = .ok (.iconst 0, 1) := dk_3 (dk_at dksL_law_9 8 rfl rfl)
theorem dL_law_360 : decode cL_law 360 = .ok (.ireturn, 1) := dk_172 (dk_at dksL_law_9 9 rfl rfl)
theorem dL_law_361 : decode cL_law 361 = .ok (.iload 6, 2) := dk_21 6 (dk_at dksL_law_9 10 rfl rfl)
theorem dL_law_363 : decode cL_law 363 = .ok (.ifCond .ne 15, 3) := dk_154 0 15 (dk_at dksL_law_9 12 rfl rfl)
theorem dL_law_366 : decode cL_law 366 = .ok (.aload_n 3, 1) := dk_45 (dk_at dksL_law_9 15 rfl rfl)
theorem dL_law_367 : decode cL_law 367 = .ok (.iconst 0, 1) := dk_3 (dk_at dksL_law_9 16 rfl rfl)
theorem dL_law_368 : decode cL_law 368 = .ok (.laload, 1) := dk_47 (dk_at dksL_law_9 17 rfl rfl)
theorem dL_law_369 : decode cL_law 369 = .ok (.iload 7, 2) := dk_21 7 (dk_at dksL_law_9 18 rfl rfl)
theorem dL_law_371 : decode cL_law 371 = .ok (.i2l, 1) := dk_133 (dk_at dksL_law_9 20 rfl rfl)
theorem dL_law_372 : decode cL_law 372 = .ok (.lcmp, 1) := dk_148 (dk_at dksL_law_9 21 rfl rfl)
theorem dL_law_373 : decode cL_law 373 = .ok (.ifCond .eq 5, 3) := dk_153 0 5 (dk_at dksL_law_10 0 rfl rfl)
theorem dL_law_376 : decode cL_law 376 = .ok (.iconst 0, 1) := dk_3 (dk_at dksL_law_10 3 rfl rfl)
theorem dL_law_377 : decode cL_law 377 = .ok (.ireturn, 1) := dk_172 (dk_at dksL_law_10 4 rfl rfl)
theorem dL_law_378 : decode cL_law 378 = .ok (.goto 2124, 3) := dk_167 8 76 (dk_at dksL_law_10 5 rfl rfl)
theorem dL_law_381 : decode cL_law 381 = .ok (.aload_n 1, 1) := dk_43 (dk_at dksL_law_10 8 rfl rfl)
theorem dL_law_382 : decode cL_law 382 = .ok (.aload_n 0, 1) := dk_42 (dk_at dksL_law_10 9 rfl rfl)
theorem dL_law_383 : decode cL_law 383 = .ok (.iload 5, 2) := dk_21 5 (dk_at dksL_law_10 10 rfl rfl)
theorem dL_law_385 : decode cL_law 385 = .ok (.iconst 1, 1) := dk_4 (dk_at dksL_law_10 12 rfl rfl)
theorem dL_law_386 : decode cL_law 386 = .ok (.iadd, 1) := dk_96 (dk_at dksL_law_10 13 rfl rfl)
theorem dL_law_387 : decode cL_law 387 = .ok (.iaload, 1) := dk_46 (dk_at dksL_law_10 14 rfl rfl)
theorem dL_law_388 : decode cL_law 388 = .ok (.aload_n 0, 1) := dk_42 (dk_at dksL_law_10 15 rfl rfl)
theorem dL_law_389 : decode cL_law 389 = .ok (.iload 5, 2) := dk_21 5 (dk_at dksL_law_10 16 rfl rfl)
theorem dL_law_391 : decode cL_law 391 = .ok (.iconst 2, 1) := dk_5 (dk_at dksL_law_10 18 rfl rfl)
theorem dL_law_392 : decode cL_law 392 = .ok (.iadd, 1) := dk_96 (dk_at dksL_law_10 19 rfl rfl)
theorem dL_law_393 : decode cL_law 393 = .ok (.iaload, 1) := dk_46 (dk_at dksL_law_10 20 rfl rfl)
theorem dL_law_394 : decode cL_law 394 = .ok (.aload_n 0, 1) := dk_42 (dk_at dksL_law_10 21 rfl rfl)
theorem dL_law_395 : decode cL_law 395 = .ok (.iload 5, 2) := dk_21 5 (dk_at dksL_law_10 22 rfl rfl)
theorem dL_law_397 : decode cL_law 397 = .ok (.iconst 3, 1) := dk_6 (dk_at dksL_law_11 0 rfl rfl)
theorem dL_law_398 : decode cL_law 398 = .ok (.iadd, 1) := dk_96 (dk_at dksL_law_11 1 rfl rfl)
theorem dL_law_399 : decode cL_law 399 = .ok (.iaload, 1) := dk_46 (dk_at dksL_law_11 2 rfl rfl)
theorem dL_law_400 : decode cL_law 400 = .ok (.aload_n 3, 1) := dk_45 (dk_at dksL_law_11 3 rfl rfl)
theorem dL_law_401 : decode cL_law 401 = .ok (.invokestatic 154, 3) := dk_184 0 154 (dk_at dksL_law_11 4 rfl rfl)
theorem dL_law_404 : decode cL_law 404 = .ok (.istore 6, 2) := dk_54 6 (dk_at dksL_law_11 7 rfl rfl)
theorem dL_law_406 : decode cL_law 406 = .ok (.aload_n 2, 1) := dk_44 (dk_at dksL_law_11 9 rfl rfl)
theorem dL_law_407 : decode cL_law 407 = .ok (.aload_n 0, 1) := dk_42 (dk_at dksL_law_11 10 rfl rfl)
theorem dL_law_408 : decode cL_law 408 = .ok (.iload 5, 2) := dk_21 5 (dk_at dksL_law_11 11 rfl rfl)
theorem dL_law_410 : decode cL_law 410 = .ok (.iconst 1, 1) := dk_4 (dk_at dksL_law_11 13 rfl rfl)
theorem dL_law_411 : decode cL_law 411 = .ok (.iadd, 1) := dk_96 (dk_at dksL_law_11 14 rfl rfl)
theorem dL_law_412 : decode cL_law 412 = .ok (.iaload, 1) := dk_46 (dk_at dksL_law_11 15 rfl rfl)
theorem dL_law_413 : decode cL_law 413 = .ok (.aload_n 0, 1) := dk_42 (dk_at dksL_law_11 16 rfl rfl)
theorem dL_law_414 : decode cL_law 414 = .ok (.iload 5, 2) := dk_21 5 (dk_at dksL_law_11 17 rfl rfl)
theorem dL_law_416 : decode cL_law 416 = .ok (.iconst 2, 1) := dk_5 (dk_at dksL_law_11 19 rfl rfl)
theorem dL_law_417 : decode cL_law 417 = .ok (.iadd, 1) := dk_96 (dk_at dksL_law_11 20 rfl rfl)
theorem dL_law_418 : decode cL_law 418 = .ok (.iaload, 1) := dk_46 (dk_at dksL_law_11 21 rfl rfl)
theorem dL_law_419 : decode cL_law 419 = .ok (.aload_n 0, 1) := dk_42 (dk_at dksL_law_11 22 rfl rfl)
theorem dL_law_420 : decode cL_law 420 = .ok (.iload 5, 2) := dk_21 5 (dk_at dksL_law_12 0 rfl rfl)
theorem dL_law_422 : decode cL_law 422 = .ok (.iconst 3, 1) := dk_6 (dk_at dksL_law_12 2 rfl rfl)
theorem dL_law_423 : decode cL_law 423 = .ok (.iadd, 1) := dk_96 (dk_at dksL_law_12 3 rfl rfl)
theorem dL_law_424 : decode cL_law 424 = .ok (.iaload, 1) := dk_46 (dk_at dksL_law_12 4 rfl rfl)
theorem dL_law_425 : decode cL_law 425 = .ok (.invokevirtual 156, 3) := dk_182 0 156 (dk_at dksL_law_12 5 rfl rfl)
theorem dL_law_428 : decode cL_law 428 = .ok (.istore 7, 2) := dk_54 7 (dk_at dksL_law_12 8 rfl rfl)
theorem dL_law_430 : decode cL_law 430 = .ok (.aload_n 2, 1) := dk_44 (dk_at dksL_law_12 10 rfl rfl)
theorem dL_law_431 : decode cL_law 431 = .ok (.invokevirtual 148, 3) := dk_182 0 148 (dk_at dksL_law_12 11 rfl rfl)
theorem dL_law_434 : decode cL_law 434 = .ok (.iload 6, 2) := dk_21 6 (dk_at dksL_law_12 14 rfl rfl)
theorem dL_law_436 : decode cL_law 436 = .ok (.if_icmp .eq 5, 3) := dk_159 0 5 (dk_at dksL_law_12 16 rfl rfl)
theorem dL_law_439 : decode cL_law 439 = .ok (.iconst 0, 1) := dk_3 (dk_at dksL_law_12 19 rfl rfl)
theorem dL_law_440 : decode cL_law 440 = .ok (.ireturn, 1) := dk_172 (dk_at dksL_law_12 20 rfl rfl)
theorem dL_law_441 : decode cL_law 441 = .ok (.iload 6, 2) := dk_21 6 (dk_at dksL_law_12 21 rfl rfl)
theorem dL_law_443 : decode cL_law 443 = .ok (.ifCond .ne 15, 3) := dk_154 0 15 (dk_at dksL_law_13 0 rfl rfl)
theorem dL_law_446 : decode cL_law 446 = .ok (.aload_n 3, 1) := dk_45 (dk_at dksL_law_13 3 rfl rfl)
theorem dL_law_447 : decode cL_law 447 = .ok (.iconst 0, 1) := dk_3 (dk_at dksL_law_13 4 rfl rfl)
theorem dL_law_448 : decode cL_law 448 = .ok (.laload, 1) := dk_47 (dk_at dksL_law_13 5 rfl rfl)
theorem dL_law_449 : decode cL_law 449 = .ok (.iload 7, 2) := dk_21 7 (dk_at dksL_law_13 6 rfl rfl)
theorem dL_law_451 : decode cL_law 451 = .ok (.i2l, 1) := dk_133 (dk_at dksL_law_13 8 rfl rfl)
theorem dL_law_452 : decode cL_law 452 = .ok (.lcmp, 1) := dk_148 (dk_at dksL_law_13 9 rfl rfl)
theorem dL_law_453 : decode cL_law 453 = .ok (.ifCond .eq 5, 3) := dk_153 0 5 (dk_at dksL_law_13 10 rfl rfl)
theorem dL_law_456 : decode cL_law 456 = .ok (.iconst 0, 1) := dk_3 (dk_at dksL_law_13 13 rfl rfl)
theorem dL_law_457 : decode cL_law 457 = .ok (.ireturn, 1) := dk_172 (dk_at dksL_law_13 14 rfl rfl)
theorem dL_law_458 : decode cL_law 458 = .ok (.goto 2044, 3) := dk_167 7 252 (dk_at dksL_law_13 15 rfl rfl)
theorem dL_law_461 : decode cL_law 461 = .ok (.aload_n 1, 1) := dk_43 (dk_at dksL_law_13 18 rfl rfl)
theorem dL_law_462 : decode cL_law 462 = .ok (.aload_n 0, 1) := dk_42 (dk_at dksL_law_13 19 rfl rfl)
theorem dL_law_463 : decode cL_law 463 = .ok (.iload 5, 2) := dk_21 5 (dk_at dksL_law_13 20 rfl rfl)
theorem dL_law_465 : decode cL_law 465 = .ok (.iconst 1, 1) := dk_4 (dk_at dksL_law_13 22 rfl rfl)
theorem dL_law_466 : decode cL_law 466 = .ok (.iadd, 1) := dk_96 (dk_at dksL_law_13 23 rfl rfl)
theorem dL_law_467 : decode cL_law 467 = .ok (.iaload, 1) := dk_46 (dk_at dksL_law_14 0 rfl rfl)
theorem dL_law_468 : decode cL_law 468 = .ok (.aload_n 3, 1) := dk_45 (dk_at dksL_law_14 1 rfl rfl)
theorem dL_law_469 : decode cL_law 469 = .ok (.invokestatic 157, 3) := dk_184 0 157 (dk_at dksL_law_14 2 rfl rfl)
theorem dL_law_472 : decode cL_law 472 = .ok (.istore 6, 2) := dk_54 6 (dk_at dksL_law_14 5 rfl rfl)
theorem dL_law_474 : decode cL_law 474 = .ok (.aload_n 2, 1) := dk_44 (dk_at dksL_law_14 7 rfl rfl)
theorem dL_law_475 : decode cL_law 475 = .ok (.aload_n 0, 1) := dk_42 (dk_at dksL_law_14 8 rfl rfl)
theorem dL_law_476 : decode cL_law 476 = .ok (.iload 5, 2) := dk_21 5 (dk_at dksL_law_14 9 rfl rfl)
theorem dL_law_478 : decode cL_law 478 = .ok (.iconst 1, 1) := dk_4 (dk_at dksL_law_14 11 rfl rfl)
theorem dL_law_479 : decode cL_law 479 = .ok (.iadd, 1) := dk_96 (dk_at dksL_law_14 12 rfl rfl)
theorem dL_law_480 : decode cL_law 480 = .ok (.iaload, 1) := dk_46 (dk_at dksL_law_14 13 rfl rfl)
theorem dL_law_481 : decode cL_law 481 = .ok (.invokevirtual 160, 3) := dk_182 0 160 (dk_at dksL_law_14 14 rfl rfl)
theorem dL_law_484 : decode cL_law 484 = .ok (.istore 7, 2) := dk_54 7 (dk_at dksL_law_14 17 rfl rfl)
theorem dL_law_486 : decode cL_law 486 = .ok (.aload_n 2, 1) := dk_44 (dk_at dksL_law_14 19 rfl rfl)
theorem dL_law_487 : decode cL_law 487 = .ok (.invokevirtual 148, 3) := dk_182 0 148 (dk_at dksL_law_14 20 rfl rfl)
theorem dL_law_490 : decode cL_law 490 = .ok (.iload 6, 2) := dk_21 6 (dk_at dksL_law_15 0 rfl rfl)
theorem dL_law_492 : decode cL_law 492 = .ok (.if_icmp .eq 5, 3) := dk_159 0 5 (dk_at dksL_law_15 2 rfl rfl)
theorem dL_law_495 : decode cL_law 495 = .ok (.iconst 0, 1) := dk_3 (dk_at dksL_law_15 5 rfl rfl)
theorem dL_law_496 : decode cL_law 496 = .ok (.ireturn, 1) := dk_172 (dk_at dksL_law_15 6 rfl rfl)
theorem dL_law_497 : decode cL_law 497 = .ok (.iload 6, 2) := dk_21 6 (dk_at dksL_law_15 7 rfl rfl)
theorem dL_law_499 : decode cL_law 499 = .ok (.ifCond .ne 15, 3) := dk_154 0 15 (dk_at dksL_law_15 9 rfl rfl)
theorem dL_law_502 : decode cL_law 502 = .ok (.aload_n 3, 1) := dk_45 (dk_at dksL_law_15 12 rfl rfl)
theorem dL_law_503 : decode cL_law 503 = .ok (.iconst 0, 1) := dk_3 (dk_at dksL_law_15 13 rfl rfl)
theorem dL_law_504 : decode cL_law 504 = .ok (.laload, 1) := dk_47 (dk_at dksL_law_15 14 rfl rfl)
theorem dL_law_505 : decode cL_law 505 = .ok (.iload 7, 2) := dk_21 7 (dk_at dksL_law_15 15 rfl rfl)
theorem dL_law_507 : decode cL_law 507 = .ok (.i2l, 1) := dk_133 (dk_at dksL_law_15 17 rfl rfl)
theorem dL_law_508 : decode cL_law 508 = .ok (.lcmp, 1) := dk_148 (dk_at dksL_law_15 18 rfl rfl)
theorem dL_law_509 : decode cL_law 509 = .ok (.ifCond .eq 5, 3) := dk_153 0 5 (dk_at dksL_law_15 19 rfl rfl)
theorem dL_law_512 : decode cL_law 512 = .ok (.iconst 0, 1) := dk_3 (dk_at dksL_law_15 22 rfl rfl)
theorem dL_law_513 : decode cL_law 513 = .ok (.ireturn, 1) := dk_172 (dk_at dksL_law_15 23 rfl rfl)
theorem dL_law_514 : decode cL_law 514 = .ok (.goto 1988, 3) := dk_167 7 196 (dk_at dksL_law_16 0 rfl rfl)
theorem dL_law_517 : decode cL_law 517 = .ok (.aload_n 1, 1) := dk_43 (dk_at dksL_law_16 3 rfl rfl)
theorem dL_law_518 : decode cL_law 518 = .ok (.aload_n 3, 1) := dk_45 (dk_at dksL_law_16 4 rfl rfl)
theorem dL_law_519 : decode cL_law 519 = .ok (.invokestatic 161, 3) := dk_184 0 161 (dk_at dksL_law_16 5 rfl rfl)
theorem dL_law_522 : decode cL_law 522 = .ok (.istore 6, 2) := dk_54 6 (dk_at dksL_law_16 8 rfl rfl)
theorem dL_law_524 : decode cL_law 524 = .ok (.aload_n 2, 1) := dk_44 (dk_at dksL_law_16 10 rfl rfl)
theorem dL_law_525 : decode cL_law 525 = .ok (.invokevirtual 164, 3) := dk_182 0 164 (dk_at dksL_law_16 11 rfl rfl)
theorem dL_law_528 : decode cL_law 528 = .ok (.istore 7, 2) := dk_54 7 (dk_at dksL_law_16 14 rfl rfl)
theorem dL_law_530 : decode cL_law 530 = .ok (.aload_n 2, 1) := dk_44 (dk_at dksL_law_16 16 rfl rfl)
theorem dL_law_531 : decode cL_law 531 = .ok (.invokevirtual 148, 3) := dk_182 0 148 (dk_at dksL_law_16 17 rfl rfl)
theorem dL_law_534 : decode cL_law 534 = .ok (.iload 6, 2) := dk_21 6 (dk_at dksL_law_16 20 rfl rfl)
theorem dL_law_536 : decode cL_law 536 = .ok (.if_icmp .eq 5, 3) := dk_159 0 5 (dk_at dksL_law_17 0 rfl rfl)
theorem dL_law_539 : decode cL_law 539 = .ok (.iconst 0, 1) := dk_3 (dk_at dksL_law_17 3 rfl rfl)
theorem dL_law_540 : decode cL_law 540 = .ok (.ireturn, 1) := dk_172 (dk_at dksL_law_17 4 rfl rfl)
theorem dL_law_541 : decode cL_law 541 = .ok (.iload 6, 2) := dk_21 6 (dk_at dksL_law_17 5 rfl rfl)
theorem dL_law_543 : decode cL_law 543 = .ok (.ifCond .ne 15, 3) := dk_154 0 15 (dk_at dksL_law_17 7 rfl rfl)
theorem dL_law_546 : decode cL_law 546 = .ok (.aload_n 3, 1) := dk_45 (dk_at dksL_law_17 10 rfl rfl)
theorem dL_law_547 : decode cL_law 547 = .ok (.iconst 0, 1) := dk_3 (dk_at dksL_law_17 11 rfl rfl)
theorem dL_law_548 : decode cL_law 548 = .ok (.laload, 1) := dk_47 (dk_at dksL_law_17 12 rfl rfl)
theorem dL_law_549 : decode cL_law 549 = .ok (.iload 7, 2) := dk_21 7 (dk_at dksL_law_17 13 rfl rfl)
theorem dL_law_551 : decode cL_law 551 = .ok (.i2l, 1) := dk_133 (dk_at dksL_law_17 15 rfl rfl)
theorem dL_law_552 : decode cL_law 552 = .ok (.lcmp, 1) := dk_148 (dk_at dksL_law_17 16 rfl rfl)
theorem dL_law_553 : decode cL_law 553 = .ok (.ifCond .eq 5, 3) := dk_153 0 5 (dk_at dksL_law_17 17 rfl rfl)
theorem dL_law_556 : decode cL_law 556 = .ok (.iconst 0, 1) := dk_3 (dk_at dksL_law_17 20 rfl rfl)
theorem dL_law_557 : decode cL_law 557 = .ok (.ireturn, 1) := dk_172 (dk_at dksL_law_17 21 rfl rfl)
theorem dL_law_558 : decode cL_law 558 = .ok (.goto 1944, 3) := dk_167 7 152 (dk_at dksL_law_18 0 rfl rfl)
theorem dL_law_561 : decode cL_law 561 = .ok (.aload_n 1, 1) := dk_43 (dk_at dksL_law_18 3 rfl rfl)
theorem dL_law_562 : decode cL_law 562 = .ok (.aload_n 0, 1) := dk_42 (dk_at dksL_law_18 4 rfl rfl)
theorem dL_law_563 : decode cL_law 563 = .ok (.iload 5, 2) := dk_21 5 (dk_at dksL_law_18 5 rfl rfl)
theorem dL_law_565 : decode cL_law 565 = .ok (.iconst 1, 1) := dk_4 (dk_at dksL_law_18 7 rfl rfl)
theorem dL_law_566 : decode cL_law 566 = .ok (.iadd, 1) := dk_96 (dk_at dksL_law_18 8 rfl rfl)
theorem dL_law_567 : decode cL_law 567 = .ok (.iaload, 1) := dk_46 (dk_at dksL_law_18 9 rfl rfl)
theorem dL_law_568 : decode cL_law 568 = .ok (.aload_n 0, 1) := dk_42 (dk_at dksL_law_18 10 rfl rfl)
theorem dL_law_569 : decode cL_law 569 = .ok (.iload 5, 2) := dk_21 5 (dk_at dksL_law_18 11 rfl rfl)
theorem dL_law_571 : decode cL_law 571 = .ok (.iconst 2, 1) := dk_5 (dk_at dksL_law_18 13 rfl rfl)
theorem dL_law_572 : decode cL_law 572 = .ok (.iadd, 1) := dk_96 (dk_at dksL_law_18 14 rfl rfl)
theorem dL_law_573 : decode cL_law 573 = .ok (.iaload, 1) := dk_46 (dk_at dksL_law_18 15 rfl rfl)
theorem dL_law_574 : decode cL_law 574 = .ok (.aload_n 0, 1) := dk_42 (dk_at dksL_law_18 16 rfl rfl)
theorem dL_law_575 : decode cL_law 575 = .ok (.iload 5, 2) := dk_21 5 (dk_at dksL_law_18 17 rfl rfl)
theorem dL_law_577 : decode cL_law 577 = .ok (.iconst 3, 1) := dk_6 (dk_at dksL_law_18 19 rfl rfl)
theorem dL_law_578 : decode cL_law 578 = .ok (.iadd, 1) := dk_96 (dk_at dksL_law_18 20 rfl rfl)
theorem dL_law_579 : decode cL_law 579 = .ok (.iaload, 1) := dk_46 (dk_at dksL_law_18 21 rfl rfl)
theorem dL_law_580 : decode cL_law 580 = .ok (.ifCond .eq 7, 3) := dk_153 0 7 (dk_at dksL_law_19 0 rfl rfl)
theorem dL_law_583 : decode cL_law 583 = .ok (.iconst 1, 1) := dk_4 (dk_at dksL_law_19 3 rfl rfl)
theorem dL_law_584 : decode cL_law 584 = .ok (.goto 4, 3) := dk_167 0 4 (dk_at dksL_law_19 4 rfl rfl)
theorem dL_law_587 : decode cL_law 587 = .ok (.iconst 0, 1) := dk_3 (dk_at dksL_law_19 7 rfl rfl)
theorem dL_law_588 : decode cL_law 588 = .ok (.aload_n 3, 1) := dk_45 (dk_at dksL_law_19 8 rfl rfl)
theorem dL_law_589 : decode cL_law 589 = .ok (.invokestatic 165, 3) := dk_184 0 165 (dk_at dksL_law_19 9 rfl rfl)
theorem dL_law_592 : decode cL_law 592 = .ok (.istore 6, 2) := dk_54 6 (dk_at dksL_law_19 12 rfl rfl)
theorem dL_law_594 : decode cL_law 594 = .ok (.aload_n 2, 1) := dk_44 (dk_at dksL_law_19 14 rfl rfl)
theorem dL_law_595 : decode cL_law 595 = .ok (.aload_n 0, 1) := dk_42 (dk_at dksL_law_19 15 rfl rfl)
theorem dL_law_596 : decode cL_law 596 = .ok (.iload 5, 2) := dk_21 5 (dk_at dksL_law_19 16 rfl rfl)
theorem dL_law_598 : decode cL_law 598 = .ok (.iconst 1, 1) := dk_4 (dk_at dksL_law_19 18 rfl rfl)
theorem dL_law_599 : decode cL_law 599 = .ok (.iadd, 1) := dk_96 (dk_at dksL_law_19 19 rfl rfl)
theorem dL_law_600 : decode cL_law 600 = .ok (.iaload, 1) := dk_46 (dk_at dksL_law_19 20 rfl rfl)
theorem dL_law_601 : decode cL_law 601 = .ok (.aload_n 0, 1) := dk_42 (dk_at dksL_law_19 21 rfl rfl)
theorem dL_law_602 : decode cL_law 602 = .ok (.iload 5, 2) := dk_21 5 (dk_at dksL_law_19 22 rfl rfl)
theorem dL_law_604 : decode cL_law 604 = .ok (.iconst 2, 1) := dk_5 (dk_at dksL_law_20 0 rfl rfl)
theorem dL_law_605 : decode cL_law 605 = .ok (.iadd, 1) := dk_96 (dk_at dksL_law_20 1 rfl rfl)
theorem dL_law_606 : decode cL_law 606 = .ok (.iaload, 1) := dk_46 (dk_at dksL_law_20 2 rfl rfl)
theorem dL_law_607 : decode cL_law 607 = .ok (.aload_n 0, 1) := dk_42 (dk_at dksL_law_20 3 rfl rfl)
theorem dL_law_608 : decode cL_law 608 = .ok (.iload 5, 2) := dk_21 5 (dk_at dksL_law_20 4 rfl rfl)
theorem dL_law_610 : decode cL_law 610 = .ok (.iconst 3, 1) := dk_6 (dk_at dksL_law_20 6 rfl rfl)
theorem dL_law_611 : decode cL_law 611 = .ok (.iadd, 1) := dk_96 (dk_at dksL_law_20 7 rfl rfl)
theorem dL_law_612 : decode cL_law 612 = .ok (.iaload, 1) := dk_46 (dk_at dksL_law_20 8 rfl rfl)
theorem dL_law_613 : decode cL_law 613 = .ok (.ifCond .eq 7, 3) := dk_153 0 7 (dk_at dksL_law_20 9 rfl rfl)
theorem dL_law_616 : decode cL_law 616 = .ok (.iconst 1, 1) := dk_4 (dk_at dksL_law_20 12 rfl rfl)
theorem dL_law_617 : decode cL_law 617 = .ok (.goto 4, 3) := dk_167 0 4 (dk_at dksL_law_20 13 rfl rfl)
theorem dL_law_620 : decode cL_law 620 = .ok (.iconst 0, 1) := dk_3 (dk_at dksL_law_20 16 rfl rfl)
theorem dL_law_621 : decode cL_law 621 = .ok (.invokevirtual 168, 3) := dk_182 0 168 (dk_at dksL_law_20 17 rfl rfl)
theorem dL_law_624 : decode cL_law 624 = .ok (.istore 7, 2) := dk_54 7 (dk_at dksL_law_20 20 rfl rfl)
theorem dL_law_626 : decode cL_law 626 = .ok (.aload_n 2, 1) := dk_44 (dk_at dksL_law_20 22 rfl rfl)
theorem dL_law_627 : decode cL_law 627 = .ok (.invokevirtual 148, 3) := dk_182 0 148 (dk_at dksL_law_21 0 rfl rfl)
theorem dL_law_630 : decode cL_law 630 = .ok (.iload 6, 2) := dk_21 6 (dk_at dksL_law_21 3 rfl rfl)
theorem dL_law_632 : decode cL_law 632 = .ok (.if_icmp .eq 5, 3) := dk_159 0 5 (dk_at dksL_law_21 5 rfl rfl)
theorem dL_law_635 : decode cL_law 635 = .ok (.iconst 0, 1) := dk_3 (dk_at dksL_law_21 8 rfl rfl)
theorem dL_law_636 : decode cL_law 636 = .ok (.ireturn, 1) := dk_172 (dk_at dksL_law_21 9 rfl rfl)
theorem dL_law_637 : decode cL_law 637 = .ok (.iload 6, 2) := dk_21 6 (dk_at dksL_law_21 10 rfl rfl)
theorem dL_law_639 : decode cL_law 639 = .ok (.ifCond .ne 22, 3) := dk_154 0 22 (dk_at dksL_law_21 12 rfl rfl)
theorem dL_law_642 : decode cL_law 642 = .ok (.aload_n 3, 1) := dk_45 (dk_at dksL_law_21 15 rfl rfl)
theorem dL_law_643 : decode cL_law 643 = .ok (.iconst 0, 1) := dk_3 (dk_at dksL_law_21 16 rfl rfl)
theorem dL_law_644 : decode cL_law 644 = .ok (.laload, 1) := dk_47 (dk_at dksL_law_21 17 rfl rfl)
theorem dL_law_645 : decode cL_law 645 = .ok (.iload 7, 2) := dk_21 7 (dk_at dksL_law_21 18 rfl rfl)
theorem dL_law_647 : decode cL_law 647 = .ok (.ifCond .eq 7, 3) := dk_153 0 7 (dk_at dksL_law_21 20 rfl rfl)
theorem dL_law_650 : decode cL_law 650 = .ok (.lconst 1, 1) := dk_10 (dk_at dksL_law_21 23 rfl rfl)
theorem dL_law_651 : decode cL_law 651 = .ok (.goto 4, 3) := dk_167 0 4 (dk_at dksL_law_22 0 rfl rfl)
theorem dL_law_654 : decode cL_law 654 = .ok (.lconst 0, 1) := dk_9 (dk_at dksL_law_22 3 rfl rfl)
theorem dL_law_655 : decode cL_law 655 = .ok (.lcmp, 1) := dk_148 (dk_at dksL_law_22 4 rfl rfl)
theorem dL_law_656 : decode cL_law 656 = .ok (.ifCond .eq 5, 3) := dk_153 0 5 (dk_at dksL_law_22 5 rfl rfl)
theorem dL_law_659 : decode cL_law 659 = .ok (.iconst 0, 1) := dk_3 (dk_at dksL_law_22 8 rfl rfl)
theorem dL_law_660 : decode cL_law 660 = .ok (.ireturn, 1) := dk_172 (dk_at dksL_law_22 9 rfl rfl)
theorem dL_law_661 : decode cL_law 661 = .ok (.goto 1841, 3) := dk_167 7 49 (dk_at dksL_law_22 10 rfl rfl)
theorem dL_law_664 : decode cL_law 664 = .ok (.aload_n 1, 1) := dk_43 (dk_at dksL_law_22 13 rfl rfl)
theorem dL_law_665 : decode cL_law 665 = .ok (.aload_n 0, 1) := dk_42 (dk_at dksL_law_22 14 rfl rfl)
theorem dL_law_666 : decode cL_law 666 = .ok (.iload 5, 2) := dk_21 5 (dk_at dksL_law_22 15 rfl rfl)
theorem dL_law_668 : decode cL_law 668 = .ok (.iconst 1, 1) := dk_4 (dk_at dksL_law_22 17 rfl rfl)
theorem dL_law_669 : decode cL_law 669 = .ok (.iadd, 1) := dk_96 (dk_at dksL_law_22 18 rfl rfl)
theorem dL_law_670 : decode cL_law 670 = .ok (.iaload, 1) := dk_46 (dk_at dksL_law_22 19 rfl rfl)
theorem dL_law_671 : decode cL_law 671 = .ok (.aload_n 0, 1) := dk_42 (dk_at dksL_law_22 20 rfl rfl)
theorem dL_law_672 : decode cL_law 672 = .ok (.iload 5, 2) := dk_21 5 (dk_at dksL_law_22 21 rfl rfl)
theorem dL_law_674 : decode cL_law 674 = .ok (.iconst 2, 1) := dk_5 (dk_at dksL_law_22 23 rfl rfl)
theorem dL_law_675 : decode cL_law 675 = .ok (.iadd, 1) := dk_96 (dk_at dksL_law_23 0 rfl rfl)
theorem dL_law_676 : decode cL_law 676 = .ok (.iaload, 1) := dk_46 (dk_at dksL_law_23 1 rfl rfl)
theorem dL_law_677 : decode cL_law 677 = .ok (.aload_n 0, 1) := dk_42 (dk_at dksL_law_23 2 rfl rfl)
theorem dL_law_678 : decode cL_law 678 = .ok (.iload 5, 2) := dk_21 5 (dk_at dksL_law_23 3 rfl rfl)
theorem dL_law_680 : decode cL_law 680 = .ok (.iconst 3, 1) := dk_6 (dk_at dksL_law_23 5 rfl rfl)
theorem dL_law_681 : decode cL_law 681 = .ok (.iadd, 1) := dk_96 (dk_at dksL_law_23 6 rfl rfl)
theorem dL_law_682 : decode cL_law 682 = .ok (.iaload, 1) := dk_46 (dk_at dksL_law_23 7 rfl rfl)
theorem dL_law_683 : decode cL_law 683 = .ok (.ifCond .eq 7, 3) := dk_153 0 7 (dk_at dksL_law_23 8 rfl rfl)
theorem dL_law_686 : decode cL_law 686 = .ok (.iconst 1, 1) := dk_4 (dk_at dksL_law_23 11 rfl rfl)
theorem dL_law_687 : decode cL_law 687 = .ok (.goto 4, 3) := dk_167 0 4 (dk_at dksL_law_23 12 rfl rfl)
theorem dL_law_690 : decode cL_law 690 = .ok (.iconst 0, 1) := dk_3 (dk_at dksL_law_23 15 rfl rfl)
theorem dL_law_691 : decode cL_law 691 = .ok (.aload_n 3, 1) := dk_45 (dk_at dksL_law_23 16 rfl rfl)
theorem dL_law_692 : decode cL_law 692 = .ok (.invokestatic 169, 3) := dk_184 0 169 (dk_at dksL_law_23 17 rfl rfl)
theorem dL_law_695 : decode cL_law 695 = .ok (.istore 6, 2) := dk_54 6 (dk_at dksL_law_23 20 rfl rfl)
theorem dL_law_697 : decode cL_law 697 = .ok (.aload_n 2, 1) := dk_44 (dk_at dksL_law_23 22 rfl rfl)
theorem dL_law_698 : decode cL_law 698 = .ok (.aload_n 0, 1) := dk_42 (dk_at dksL_law_23 23 rfl rfl)
theorem dL_law_699 : decode cL_law 699 = .ok (.iload 5, 2) := dk_21 5 (dk_at dksL_law_24 0 rfl rfl)
theorem dL_law_701 : decode cL_law 701 = .ok (.iconst 1, 1) := dk_4 (dk_at dksL_law_24 2 rfl rfl)
theorem dL_law_702 : decode cL_law 702 = .ok (.iadd, 1) := dk_96 (dk_at dksL_law_24 3 rfl rfl)
theorem dL_law_703 : decode cL_law 703 = .ok (.iaload, 1) := dk_46 (dk_at dksL_law_24 4 rfl rfl)
theorem dL_law_704 : decode cL_law 704 = .ok (.aload_n 0, 1) := dk_42 (dk_at dksL_law_24 5 rfl rfl)
theorem dL_law_705 : decode cL_law 705 = .ok (.iload 5, 2) := dk_21 5 (dk_at dksL_law_24 6 rfl rfl)
theorem dL_law_707 : decode cL_law 707 = .ok (.iconst 2, 1) := dk_5 (dk_at dksL_law_24 8 rfl rfl)
theorem dL_law_708 : decode cL_law 708 = .ok (.iadd, 1) := dk_96 (dk_at dksL_law_24 9 rfl rfl)
theorem dL_law_709 : decode cL_law 709 = .ok (.iaload, 1) := dk_46 (dk_at dksL_law_24 10 rfl rfl)
theorem dL_law_710 : decode cL_law 710 = .ok (.aload_n 0, 1) := dk_42 (dk_at dksL_law_24 11 rfl rfl)
theorem dL_law_711 : decode cL_law 711 = .ok (.iload 5, 2) := dk_21 5 (dk_at dksL_law_24 12 rfl rfl)
theorem dL_law_713 : decode cL_law 713 = .ok (.iconst 3, 1) := dk_6 (dk_at dksL_law_24 14 rfl rfl)
theorem dL_law_714 : decode cL_law 714 = .ok (.iadd, 1) := dk_96 (dk_at dksL_law_24 15 rfl rfl)
theorem dL_law_715 : decode cL_law 715 = .ok (.iaload, 1) := dk_46 (dk_at dksL_law_24 16 rfl rfl)
theorem dL_law_716 : decode cL_law 716 = .ok (.ifCond .eq 7, 3) := dk_153 0 7 (dk_at dksL_law_24 17 rfl rfl)
theorem dL_law_719 : decode cL_law 719 = .ok (.iconst 1, 1) := dk_4 (dk_at dksL_law_24 20 rfl rfl)
theorem dL_law_720 : decode cL_law 720 = .ok (.goto 4, 3) := dk_167 0 4 (dk_at dksL_law_24 21 rfl rfl)
theorem dL_law_723 : decode cL_law 723 = .ok (.iconst 0, 1) := dk_3 (dk_at dksL_law_25 0 rfl rfl)
theorem dL_law_724 : decode cL_law 724 = .ok (.invokevirtual 171, 3) := dk_182 0 171 (dk_at dksL_law_25 1 rfl rfl)
theorem dL_law_727 : decode cL_law 727 = .ok (.istore 7, 2) := dk_54 7 (dk_at dksL_law_25 4 rfl rfl)
theorem dL_law_729 : decode cL_law 729 = .ok (.aload_n 2, 1) := dk_44 (dk_at dksL_law_25 6 rfl rfl)
theorem dL_law_730 : decode cL_law 730 = .ok (.invokevirtual 148, 3) := dk_182 0 148 (dk_at dksL_law_25 7 rfl rfl)
theorem dL_law_733 : decode cL_law 733 = .ok (.iload 6, 2) := dk_21 6 (dk_at dksL_law_25 10 rfl rfl)
theorem dL_law_735 : decode cL_law 735 = .ok (.if_icmp .eq 5, 3) := dk_159 0 5 (dk_at dksL_law_25 12 rfl rfl)
theorem dL_law_738 : decode cL_law 738 = .ok (.iconst 0, 1) := dk_3 (dk_at dksL_law_25 15 rfl rfl)
theorem dL_law_739 : decode cL_law 739 = .ok (.ireturn, 1) := dk_172 (dk_at dksL_law_25 16 rfl rfl)
theorem dL_law_740 : decode cL_law 740 = .ok (.iload 6, 2) := dk_21 6 (dk_at dksL_law_25 17 rfl rfl)
theorem dL_law_742 : decode cL_law 742 = .ok (.ifCond .ne 22, 3) := dk_154 0 22 (dk_at dksL_law_25 19 rfl rfl)
theorem dL_law_745 : decode cL_law 745 = .ok (.aload_n 3, 1) := dk_45 (dk_at dksL_law_25 22 rfl rfl)
theorem dL_law_746 : decode cL_law 746 = .ok (.iconst 0, 1) := dk_3 (dk_at dksL_law_25 23 rfl rfl)
theorem dL_law_747 : decode cL_law 747 = .ok (.laload, 1) := dk_47 (dk_at dksL_law_26 0 rfl rfl)
theorem dL_law_748 : decode cL_law 748 = .ok (.iload 7, 2) := dk_21 7 (dk_at dksL_law_26 1 rfl rfl)
theorem dL_law_750 : decode cL_law 750 = .ok (.ifCond .eq 7, 3) := dk_153 0 7 (dk_at dksL_law_26 3 rfl rfl)
theorem dL_law_753 : decode cL_law 753 = .ok (.lconst 1, 1) := dk_10 (dk_at dksL_law_26 6 rfl rfl)
theorem dL_law_754 : decode cL_law 754 = .ok (.goto 4, 3) := dk_167 0 4 (dk_at dksL_law_26 7 rfl rfl)
theorem dL_law_757 : decode cL_law 757 = .ok (.lconst 0, 1) := dk_9 (dk_at dksL_law_26 10 rfl rfl)
theorem dL_law_758 : decode cL_law 758 = .ok (.lcmp, 1) := dk_148 (dk_at dksL_law_26 11 rfl rfl)
theorem dL_law_759 : decode cL_law 759 = .ok (.ifCond .eq 5, 3) := dk_153 0 5 (dk_at dksL_law_26 12 rfl rfl)
theorem dL_law_762 : decode cL_law 762 = .ok (.iconst 0, 1) := dk_3 (dk_at dksL_law_26 15 rfl rfl)
theorem dL_law_763 : decode cL_law 763 = .ok (.ireturn, 1) := dk_172 (dk_at dksL_law_26 16 rfl rfl)
theorem dL_law_764 : decode cL_law 764 = .ok (.goto 1738, 3) := dk_167 6 202 (dk_at dksL_law_26 17 rfl rfl)
theorem dL_law_767 : decode cL_law 767 = .ok (.aload_n 1, 1) := dk_43 (dk_at dksL_law_26 20 rfl rfl)
theorem dL_law_768 : decode cL_law 768 = .ok (.aload_n 0, 1) := dk_42 (dk_at dksL_law_26 21 rfl rfl)
theorem dL_law_769 : decode cL_law 769 = .ok (.iload 5, 2) := dk_21 5 (dk_at dksL_law_26 22 rfl rfl)
theorem dL_law_771 : decode cL_law 771 = .ok (.iconst 1, 1) := dk_4 (dk_at dksL_law_27 0 rfl rfl)
theorem dL_law_772 : decode cL_law 772 = .ok (.iadd, 1) := dk_96 (dk_at dksL_law_27 1 rfl rfl)
theorem dL_law_773 : decode cL_law 773 = .ok (.iaload, 1) := dk_46 (dk_at dksL_law_27 2 rfl rfl)
theorem dL_law_774 : decode cL_law 774 = .ok (.aload_n 0, 1) := dk_42 (dk_at dksL_law_27 3 rfl rfl)
theorem dL_law_775 : decode cL_law 775 = .ok (.iload 5, 2) := dk_21 5 (dk_at dksL_law_27 4 rfl rfl)
theorem dL_law_777 : decode cL_law 777 = .ok (.iconst 2, 1) := dk_5 (dk_at dksL_law_27 6 rfl rfl)
theorem dL_law_778 : decode cL_law 778 = .ok (.iadd, 1) := dk_96 (dk_at dksL_law_27 7 rfl rfl)
theorem dL_law_779 : decode cL_law 779 = .ok (.iaload, 1) := dk_46 (dk_at dksL_law_27 8 rfl rfl)
theorem dL_law_780 : decode cL_law 780 = .ok (.aload_n 3, 1) := dk_45 (dk_at dksL_law_27 9 rfl rfl)
theorem dL_law_781 : decode cL_law 781 = .ok (.invokestatic 172, 3) := dk_184 0 172 (dk_at dksL_law_27 10 rfl rfl)
theorem dL_law_784 : decode cL_law 784 = .ok (.istore 6, 2) := dk_54 6 (dk_at dksL_law_27 13 rfl rfl)
theorem dL_law_786 : decode cL_law 786 = .ok (.aload_n 2, 1) := dk_44 (dk_at dksL_law_27 15 rfl rfl)
theorem dL_law_787 : decode cL_law 787 = .ok (.aload_n 0, 1) := dk_42 (dk_at dksL_law_27 16 rfl rfl)
theorem dL_law_788 : decode cL_law 788 = .ok (.iload 5, 2) := dk_21 5 (dk_at dksL_law_27 17 rfl rfl)
theorem dL_law_790 : decode cL_law 790 = .ok (.iconst 1, 1) := dk_4 (dk_at dksL_law_27 19 rfl rfl)
theorem dL_law_791 : decode cL_law 791 = .ok (.iadd, 1) := dk_96 (dk_at dksL_law_27 20 rfl rfl)
theorem dL_law_792 : decode cL_law 792 = .ok (.iaload, 1) := dk_46 (dk_at dksL_law_27 21 rfl rfl)
theorem dL_law_793 : decode cL_law 793 = .ok (.aload_n 0, 1) := dk_42 (dk_at dksL_law_27 22 rfl rfl)
theorem dL_law_794 : decode cL_law 794 = .ok (.iload 5, 2) := dk_21 5 (dk_at dksL_law_28 0 rfl rfl)
theorem dL_law_796 : decode cL_law 796 = .ok (.iconst 2, 1) := dk_5 (dk_at dksL_law_28 2 rfl rfl)
theorem dL_law_797 : decode cL_law 797 = .ok (.iadd, 1) := dk_96 (dk_at dksL_law_28 3 rfl rfl)
theorem dL_law_798 : decode cL_law 798 = .ok (.iaload, 1) := dk_46 (dk_at dksL_law_28 4 rfl rfl)
theorem dL_law_799 : decode cL_law 799 = .ok (.invokevirtual 175, 3) := dk_182 0 175 (dk_at dksL_law_28 5 rfl rfl)
theorem dL_law_802 : decode cL_law 802 = .ok (.istore 7, 2) := dk_54 7 (dk_at dksL_law_28 8 rfl rfl)
theorem dL_law_804 : decode cL_law 804 = .ok (.aload_n 2, 1) := dk_44 (dk_at dksL_law_28 10 rfl rfl)
theorem dL_law_805 : decode cL_law 805 = .ok (.invokevirtual 148, 3) := dk_182 0 148 (dk_at dksL_law_28 11 rfl rfl)
theorem dL_law_808 : decode cL_law 808 = .ok (.iload 6, 2) := dk_21 6 (dk_at dksL_law_28 14 rfl rfl)
theorem dL_law_810 : decode cL_law 810 = .ok (.if_icmp .eq 5, 3) := dk_159 0 5 (dk_at dksL_law_28 16 rfl rfl)
theorem dL_law_813 : decode cL_law 813 = .ok (.iconst 0, 1) := dk_3 (dk_at dksL_law_28 19 rfl rfl)
theorem dL_law_814 : decode cL_law 814 = .ok (.ireturn, 1) := dk_172 (dk_at dksL_law_28 20 rfl rfl)
theorem dL_law_815 : decode cL_law 815 = .ok (.iload 6, 2) := dk_21 6 (dk_at dksL_law_28 21 rfl rfl)
theorem dL_law_817 : decode cL_law 817 = .ok (.ifCond .ne 15, 3) := dk_154 0 15 (dk_at dksL_law_29 0 rfl rfl)
theorem dL_law_820 : decode cL_law 820 = .ok (.aload_n 3, 1) := dk_45 (dk_at dksL_law_29 3 rfl rfl)
theorem dL_law_821 : decode cL_law 821 = .ok (.iconst 0, 1) := dk_3 (dk_at dksL_law_29 4 rfl rfl)
theorem dL_law_822 : decode cL_law 822 = .ok (.laload, 1) := dk_47 (dk_at dksL_law_29 5 rfl rfl)
theorem dL_law_823 : decode cL_law 823 = .ok (.iload 7, 2) := dk_21 7 (dk_at dksL_law_29 6 rfl rfl)
theorem dL_law_825 : decode cL_law 825 = .ok (.i2l, 1) := dk_133 (dk_at dksL_law_29 8 rfl rfl)
theorem dL_law_826 : decode cL_law 826 = .ok (.lcmp, 1) := dk_148 (dk_at dksL_law_29 9 rfl rfl)
theorem dL_law_827 : decode cL_law 827 = .ok (.ifCond .eq 5, 3) := dk_153 0 5 (dk_at dksL_law_29 10 rfl rfl)
theorem dL_law_830 : decode cL_law 830 = .ok (.iconst 0, 1) := dk_3 (dk_at dksL_law_29 13 rfl rfl)
theorem dL_law_831 : decode cL_law 831 = .ok (.ireturn, 1) := dk_172 (dk_at dksL_law_29 14 rfl rfl)
theorem dL_law_832 : decode cL_law 832 = .ok (.goto 1670, 3) := dk_167 6 134 (dk_at dksL_law_29 15 rfl rfl)
theorem dL_law_835 : decode cL_law 835 = .ok (.aload_n 1, 1) := dk_43 (dk_at dksL_law_29 18 rfl rfl)
theorem dL_law_836 : decode cL_law 836 = .ok (.aload_n 0, 1) := dk_42 (dk_at dksL_law_29 19 rfl rfl)
theorem dL_law_837 : decode cL_law 837 = .ok (.iload 5, 2) := dk_21 5 (dk_at dksL_law_29 20 rfl rfl)
theorem dL_law_839 : decode cL_law 839 = .ok (.iconst 1, 1) := dk_4 (dk_at dksL_law_29 22 rfl rfl)
theorem dL_law_840 : decode cL_law 840 = .ok (.iadd, 1) := dk_96 (dk_at dksL_law_29 23 rfl rfl)
theorem dL_law_841 : decode cL_law 841 = .ok (.iaload, 1) := dk_46 (dk_at dksL_law_30 0 rfl rfl)
theorem dL_law_842 : decode cL_law 842 = .ok (.aload_n 0, 1) := dk_42 (dk_at dksL_law_30 1 rfl rfl)
theorem dL_law_843 : decode cL_law 843 = .ok (.iload 5, 2) := dk_21 5 (dk_at dksL_law_30 2 rfl rfl)
theorem dL_law_845 : decode cL_law 845 = .ok (.iconst 2, 1) := dk_5 (dk_at dksL_law_30 4 rfl rfl)
theorem dL_law_846 : decode cL_law 846 = .ok (.iadd, 1) := dk_96 (dk_at dksL_law_30 5 rfl rfl)
theorem dL_law_847 : decode cL_law 847 = .ok (.iaload, 1) := dk_46 (dk_at dksL_law_30 6 rfl rfl)
theorem dL_law_848 : decode cL_law 848 = .ok (.aload_n 0, 1) := dk_42 (dk_at dksL_law_30 7 rfl rfl)
theorem dL_law_849 : decode cL_law 849 = .ok (.iload 5, 2) := dk_21 5 (dk_at dksL_law_30 8 rfl rfl)
theorem dL_law_851 : decode cL_law 851 = .ok (.iconst 3, 1) := dk_6 (dk_at dksL_law_30 10 rfl rfl)
theorem dL_law_852 : decode cL_law 852 = .ok (.iadd, 1) := dk_96 (dk_at dksL_law_30 11 rfl rfl)
theorem dL_law_853 : decode cL_law 853 = .ok (.iaload, 1) := dk_46 (dk_at dksL_law_30 12 rfl rfl)
theorem dL_law_854 : decode cL_law 854 = .ok (.aload_n 0, 1) := dk_42 (dk_at dksL_law_30 13 rfl rfl)
theorem dL_law_855 : decode cL_law 855 = .ok (.iload 5, 2) := dk_21 5 (dk_at dksL_law_30 14 rfl rfl)
theorem dL_law_857 : decode cL_law 857 = .ok (.iconst 4, 1) := dk_7 (dk_at dksL_law_30 16 rfl rfl)
theorem dL_law_858 : decode cL_law 858 = .ok (.iadd, 1) := dk_96 (dk_at dksL_law_30 17 rfl rfl)
theorem dL_law_859 : decode cL_law 859 = .ok (.iaload, 1) := dk_46 (dk_at dksL_law_30 18 rfl rfl)
theorem dL_law_860 : decode cL_law 860 = .ok (.aload_n 3, 1) := dk_45 (dk_at dksL_law_30 19 rfl rfl)
theorem dL_law_861 : decode cL_law 861 = .ok (.invokestatic 176, 3) := dk_184 0 176 (dk_at dksL_law_30 20 rfl rfl)
theorem dL_law_864 : decode cL_law 864 = .ok (.istore 6, 2) := dk_54 6 (dk_at dksL_law_31 0 rfl rfl)
theorem dL_law_866 : decode cL_law 866 = .ok (.aload_n 2, 1) := dk_44 (dk_at dksL_law_31 2 rfl rfl)
theorem dL_law_867 : decode cL_law 867 = .ok (.aload_n 0, 1) := dk_42 (dk_at dksL_law_31 3 rfl rfl)
theorem dL_law_868 : decode cL_law 868 = .ok (.iload 5, 2) := dk_21 5 (dk_at dksL_law_31 4 rfl rfl)
theorem dL_law_870 : decode cL_law 870 = .ok (.iconst 1, 1) := dk_4 (dk_at dksL_law_31 6 rfl rfl)
theorem dL_law_871 : decode cL_law 871 = .ok (.iadd, 1) := dk_96 (dk_at dksL_law_31 7 rfl rfl)
theorem dL_law_872 : decode cL_law 872 = .ok (.iaload, 1) := dk_46 (dk_at dksL_law_31 8 rfl rfl)
theorem dL_law_873 : decode cL_law 873 = .ok (.aload_n 0, 1) := dk_42 (dk_at dksL_law_31 9 rfl rfl)
theorem dL_law_874 : decode cL_law 874 = .ok (.iload 5, 2) := dk_21 5 (dk_at dksL_law_31 10 rfl rfl)
theorem dL_law_876 : decode cL_law 876 = .ok (.iconst 2, 1) := dk_5 (dk_at dksL_law_31 12 rfl rfl)
theorem dL_law_877 : decode cL_law 877 = .ok (.iadd, 1) := dk_96 (dk_at dksL_law_31 13 rfl rfl)
theorem dL_law_878 : decode cL_law 878 = .ok (.iaload, 1) := dk_46 (dk_at dksL_law_31 14 rfl rfl)
theorem dL_law_879 : decode cL_law 879 = .ok (.aload_n 0, 1) := dk_42 (dk_at dksL_law_31 15 rfl rfl)
theorem dL_law_880 : decode cL_law 880 = .ok (.iload 5, 2) := dk_21 5 (dk_at dksL_law_31 16 rfl rfl)
theorem dL_law_882 : decode cL_law 882 = .ok (.iconst 3, 1) := dk_6 (dk_at dksL_law_31 18 rfl rfl)
theorem dL_law_883 : decode cL_law 883 = .ok (.iadd, 1) := dk_96 (dk_at dksL_law_31 19 rfl rfl)
theorem dL_law_884 : decode cL_law 884 = .ok (.iaload, 1) := dk_46 (dk_at dksL_law_31 20 rfl rfl)
theorem dL_law_885 : decode cL_law 885 = .ok (.aload_n 0, 1) := dk_42 (dk_at dksL_law_31 21 rfl rfl)
theorem dL_law_886 : decode cL_law 886 = .ok (.iload 5, 2) := dk_21 5 (dk_at dksL_law_31 22 rfl rfl)
theorem dL_law_888 : decode cL_law 888 = .ok (.iconst 4, 1) := dk_7 (dk_at dksL_law_32 0 rfl rfl)
theorem dL_law_889 : decode cL_law 889 = .ok (.iadd, 1) := dk_96 (dk_at dksL_law_32 1 rfl rfl)
theorem dL_law_890 : decode cL_law 890 = .ok (.iaload, 1) := dk_46 (dk_at dksL_law_32 2 rfl rfl)
theorem dL_law_891 : decode cL_law 891 = .ok (.invokevirtual 179, 3) := dk_182 0 179 (dk_at dksL_law_32 3 rfl rfl)
theorem dL_law_894 : decode cL_law 894 = .ok (.istore 7, 2) := dk_54 7 (dk_at dksL_law_32 6 rfl rfl)
theorem dL_law_896 : decode cL_law 896 = .ok (.aload_n 2, 1) := dk_44 (dk_at dksL_law_32 8 rfl rfl)
theorem dL_law_897 : decode cL_law 897 = .ok (.invokevirtual 148, 3) := dk_182 0 148 (dk_at dksL_law_32 9 rfl rfl)
theorem dL_law_900 : decode cL_law 900 = .ok (.iload 6, 2) := dk_21 6 (dk_at dksL_law_32 12 rfl rfl)
theorem dL_law_902 : decode cL_law 902 = .ok (.if_icmp .eq 5, 3) := dk_159 0 5 (dk_at dksL_law_32 14 rfl rfl)
theorem dL_law_905 : decode cL_law 905 = .ok (.iconst 0, 1) := dk_3 (dk_at dksL_law_32 17 rfl rfl)
theorem dL_law_906 : decode cL_law 906 = .ok (.ireturn, 1) := dk_172 (dk_at dksL_law_32 18 rfl rfl)
theorem dL_law_907 : decode cL_law 907 = .ok (.iload 6, 2) := dk_21 6 (dk_at dksL_law_32 19 rfl rfl)
theorem dL_law_909 : decode cL_law 909 = .ok (.ifCond .ne 15, 3) := dk_154 0 15 (dk_at dksL_law_32 21 rfl rfl)
theorem dL_law_912 : decode cL_law 912 = .ok (.aload_n 3, 1) := dk_45 (dk_at dksL_law_33 0 rfl rfl)
theorem dL_law_913 : decode cL_law 913 = .ok (.iconst 0, 1) := dk_3 (dk_at dksL_law_33 1 rfl rfl)
theorem dL_law_914 : decode cL_law 914 = .ok (.laload, 1) := dk_47 (dk_at dksL_law_33 2 rfl rfl)
theorem dL_law_915 : decode cL_law 915 = .ok (.iload 7, 2) := dk_21 7 (dk_at dksL_law_33 3 rfl rfl)
theorem dL_law_917 : decode cL_law 917 = .ok (.i2l, 1) := dk_133 (dk_at dksL_law_33 5 rfl rfl)
theorem dL_law_918 : decode cL_law 918 = .ok (.lcmp, 1) := dk_148 (dk_at dksL_law_33 6 rfl rfl)
theorem dL_law_919 : decode cL_law 919 = .ok (.ifCond .eq 5, 3) := dk_153 0 5 (dk_at dksL_law_33 7 rfl rfl)
theorem dL_law_922 : decode cL_law 922 = .ok (.iconst 0, 1) := dk_3 (dk_at dksL_law_33 10 rfl rfl)
theorem dL_law_923 : decode cL_law 923 = .ok (.ireturn, 1) := dk_172 (dk_at dksL_law_33 11 rfl rfl)
theorem dL_law_924 : decode cL_law 924 = .ok (.goto 1578, 3) := dk_167 6 42 (dk_at dksL_law_33 12 rfl rfl)
theorem dL_law_927 : decode cL_law 927 = .ok (.aload_n 1, 1) := dk_43 (dk_at dksL_law_33 15 rfl rfl)
theorem dL_law_928 : decode cL_law 928 = .ok (.aload_n 0, 1) := dk_42 (dk_at dksL_law_33 16 rfl rfl)
theorem dL_law_929 : decode cL_law 929 = .ok (.iload 5, 2) := dk_21 5 (dk_at dksL_law_33 17 rfl rfl)
theorem dL_law_931 : decode cL_law 931 = .ok (.iconst 1, 1) := dk_4 (dk_at dksL_law_33 19 rfl rfl)
theorem dL_law_932 : decode cL_law 932 = .ok (.iadd, 1) := dk_96 (dk_at dksL_law_33 20 rfl rfl)
theorem dL_law_933 : decode cL_law 933 = .ok (.iaload, 1) := dk_46 (dk_at dksL_law_33 21 rfl rfl)
theorem dL_law_934 : decode cL_law 934 = .ok (.aload_n 0, 1) := dk_42 (dk_at dksL_law_33 22 rfl rfl)
theorem dL_law_935 : decode cL_law 935 = .ok (.iload 5, 2) := dk_21 5 (dk_at dksL_law_34 0 rfl rfl)
theorem dL_law_937 : decode cL_law 937 = .ok (.iconst 2, 1) := dk_5 (dk_at dksL_law_34 2 rfl rfl)
theorem dL_law_938 : decode cL_law 938 = .ok (.iadd, 1) := dk_96 (dk_at dksL_law_34 3 rfl rfl)
theorem dL_law_939 : decode cL_law 939 = .ok (.iaload, 1) := dk_46 (dk_at dksL_law_34 4 rfl rfl)
theorem dL_law_940 : decode cL_law 940 = .ok (.aload_n 0, 1) := dk_42 (dk_at dksL_law_34 5 rfl rfl)
theorem dL_law_941 : decode cL_law 941 = .ok (.iload 5, 2) := dk_21 5 (dk_at dksL_law_34 6 rfl rfl)
theorem dL_law_943 : decode cL_law 943 = .ok (.iconst 3, 1) := dk_6 (dk_at dksL_law_34 8 rfl rfl)
theorem dL_law_944 : decode cL_law 944 = .ok (.iadd, 1) := dk_96 (dk_at dksL_law_34 9 rfl rfl)
theorem dL_law_945 : decode cL_law 945 = .ok (.iaload, 1) := dk_46 (dk_at dksL_law_34 10 rfl rfl)
theorem dL_law_946 : decode cL_law 946 = .ok (.aload_n 3, 1) := dk_45 (dk_at dksL_law_34 11 rfl rfl)
theorem dL_law_947 : decode cL_law 947 = .ok (.invokestatic 180, 3) := dk_184 0 180 (dk_at dksL_law_34 12 rfl rfl)
theorem dL_law_950 : decode cL_law 950 = .ok (.istore 6, 2) := dk_54 6 (dk_at dksL_law_34 15 rfl rfl)
theorem dL_law_952 : decode cL_law 952 = .ok (.aload_n 2, 1) := dk_44 (dk_at dksL_law_34 17 rfl rfl)
theorem dL_law_953 : decode cL_law 953 = .ok (.aload_n 0, 1) := dk_42 (dk_at dksL_law_34 18 rfl rfl)
theorem dL_law_954 : decode cL_law 954 = .ok (.iload 5, 2) := dk_21 5 (dk_at dksL_law_34 19 rfl rfl)
theorem dL_law_956 : decode cL_law 956 = .ok (.iconst 1, 1) := dk_4 (dk_at dksL_law_34 21 rfl rfl)
theorem dL_law_957 : decode cL_law 957 = .ok (.iadd, 1) := dk_96 (dk_at dksL_law_34 22 rfl rfl)
theorem dL_law_958 : decode cL_law 958 = .ok (.iaload, 1) := dk_46 (dk_at dksL_law_34 23 rfl rfl)
theorem dL_law_959 : decode cL_law 959 = .ok (.aload_n 0, 1) := dk_42 (dk_at dksL_law_35 0 rfl rfl)
theorem dL_law_960 : decode cL_law 960 = .ok (.iload 5, 2) := dk_21 5 (dk_at dksL_law_35 1 rfl rfl)
theorem dL_law_962 : decode cL_law 962 = .ok (.iconst 2, 1) := dk_5 (dk_at dksL_law_35 3 rfl rfl)
theorem dL_law_963 : decode cL_law 963 = .ok (.iadd, 1) := dk_96 (dk_at dksL_law_35 4 rfl rfl)
theorem dL_law_964 : decode cL_law 964 = .ok (.iaload, 1) := dk_46 (dk_at dksL_law_35 5 rfl rfl)
theorem dL_law_965 : decode cL_law 965 = .ok (.aload_n 0, 1) := dk_42 (dk_at dksL_law_35 6 rfl rfl)
theorem dL_law_966 : decode cL_law 966 = .ok (.iload 5, 2) := dk_21 5 (dk_at dksL_law_35 7 rfl rfl)
theorem dL_law_968 : decode cL_law 968 = .ok (.iconst 3, 1) := dk_6 (dk_at dksL_law_35 9 rfl rfl)
theorem dL_law_969 : decode cL_law 969 = .ok (.iadd, 1) := dk_96 (dk_at dksL_law_35 10 rfl rfl)
theorem dL_law_970 : decode cL_law 970 = .ok (.iaload, 1) := dk_46 (dk_at dksL_law_35 11 rfl rfl)
theorem dL_law_971 : decode cL_law 971 = .ok (.invokevirtual 182, 3) := dk_182 0 182 (dk_at dksL_law_35 12 rfl rfl)
theorem dL_law_974 : decode cL_law 974 = .ok (.istore 7, 2) := dk_54 7 (dk_at dksL_law_35 15 rfl rfl)
theorem dL_law_976 : decode cL_law 976 = .ok (.aload_n 2, 1) := dk_44 (dk_at dksL_law_35 17 rfl rfl)
theorem dL_law_977 : decode cL_law 977 = .ok (.invokevirtual 148, 3) := dk_182 0 148 (dk_at dksL_law_35 18 rfl rfl)
theorem dL_law_980 : decode cL_law 980 = .ok (.iload 6, 2) := dk_21 6 (dk_at dksL_law_35 21 rfl rfl)
theorem dL_law_982 : decode cL_law 982 = .ok (.if_icmp .eq 5, 3) := dk_159 0 5 (dk_at dksL_law_36 0 rfl rfl)
theorem dL_law_985 : decode cL_law 985 = .ok (.iconst 0, 1) := dk_3 (dk_at dksL_law_36 3 rfl rfl)
theorem dL_law_986 : decode cL_law 986 = .ok (.ireturn, 1) := dk_172 (dk_at dksL_law_36 4 rfl rfl)
theorem dL_law_987 : decode cL_law 987 = .ok (.iload 6, 2) := dk_21 6 (dk_at dksL_law_36 5 rfl rfl)
theorem dL_law_989 : decode cL_law 989 = .ok (.ifCond .ne 15, 3) := dk_154 0 15 (dk_at dksL_law_36 7 rfl rfl)
theorem dL_law_992 : decode cL_law 992 = .ok (.aload_n 3, 1) := dk_45 (dk_at dksL_law_36 10 rfl rfl)
theorem dL_law_993 : decode cL_law 993 = .ok (.iconst 0, 1) := dk_3 (dk_at dksL_law_36 11 rfl rfl)
theorem dL_law_994 : decode cL_law 994 = .ok (.laload, 1) := dk_47 (dk_at dksL_law_36 12 rfl rfl)
theorem dL_law_995 : decode cL_law 995 = .ok (.iload 7, 2) := dk_21 7 (dk_at dksL_law_36 13 rfl rfl)
theorem dL_law_997 : decode cL_law 997 = .ok (.i2l, 1) := dk_133 (dk_at dksL_law_36 15 rfl rfl)
theorem dL_law_998 : decode cL_law 998 = .ok (.lcmp, 1) := dk_148 (dk_at dksL_law_36 16 rfl rfl)
theorem dL_law_999 : decode cL_law 999 = .ok (.ifCond .eq 5, 3) := dk_153 0 5 (dk_at dksL_law_36 17 rfl rfl)
theorem dL_law_1002 : decode cL_law 1002 = .ok (.iconst 0, 1) := dk_3 (dk_at dksL_law_36 20 rfl rfl)
theorem dL_law_1003 : decode cL_law 1003 = .ok (.ireturn, 1) := dk_172 (dk_at dksL_law_36 21 rfl rfl)
theorem dL_law_1004 : decode cL_law 1004 = .ok (.goto 1498, 3) := dk_167 5 218 (dk_at dksL_law_37 0 rfl rfl)
theorem dL_law_1007 : decode cL_law 1007 = .ok (.aload_n 1, 1) := dk_43 (dk_at dksL_law_37 3 rfl rfl)
theorem dL_law_1008 : decode cL_law 1008 = .ok (.aload_n 0, 1) := dk_42 (dk_at dksL_law_37 4 rfl rfl)
theorem dL_law_1009 : decode cL_law 1009 = .ok (.iload 5, 2) := dk_21 5 (dk_at dksL_law_37 5 rfl rfl)
theorem dL_law_1011 : decode cL_law 1011 = .ok (.iconst 1, 1) := dk_4 (dk_at dksL_law_37 7 rfl rfl)
theorem dL_law_1012 : decode cL_law 1012 = .ok (.iadd, 1) := dk_96 (dk_at dksL_law_37 8 rfl rfl)
theorem dL_law_1013 : decode cL_law 1013 = .ok (.iaload, 1) := dk_46 (dk_at dksL_law_37 9 rfl rfl)
theorem dL_law_1014 : decode cL_law 1014 = .ok (.aload_n 0, 1) := dk_42 (dk_at dksL_law_37 10 rfl rfl)
theorem dL_law_1015 : decode cL_law 1015 = .ok (.iload 5, 2) := dk_21 5 (dk_at dksL_law_37 11 rfl rfl)
theorem dL_law_1017 : decode cL_law 1017 = .ok (.iconst 2, 1) := dk_5 (dk_at dksL_law_37 13 rfl rfl)
theorem dL_law_1018 : decode cL_law 1018 = .ok (.iadd, 1) := dk_96 (dk_at dksL_law_37 14 rfl rfl)
theorem dL_law_1019 : decode cL_law 1019 = .ok (.iaload, 1) := dk_46 (dk_at dksL_law_37 15 rfl rfl)
theorem dL_law_1020 : decode cL_law 1020 = .ok (.aload_n 3, 1) := dk_45 (dk_at dksL_law_37 16 rfl rfl)
theorem dL_law_1021 : decode cL_law 1021 = .ok (.invokestatic 183, 3) := dk_184 0 183 (dk_at dksL_law_37 17 rfl rfl)
theorem dL_law_1024 : decode cL_law 1024 = .ok (.istore 6, 2) := dk_54 6 (dk_at dksL_law_37 20 rfl rfl)
theorem dL_law_1026 : decode cL_law 1026 = .ok (.aload_n 2, 1) := dk_44 (dk_at dksL_law_37 22 rfl rfl)
theorem dL_law_1027 : decode cL_law 1027 = .ok (.aload_n 0, 1) := dk_42 (dk_at dksL_law_37 23 rfl rfl)
theorem dL_law_1028 : decode cL_law 1028 = .ok (.iload 5, 2) := dk_21 5 (dk_at dksL_law_38 0 rfl rfl)
theorem dL_law_1030 : decode cL_law 1030 = .ok (.iconst 1, 1) := dk_4 (dk_at dksL_law_38 2 rfl rfl)
theorem dL_law_1031 : decode cL_law 1031 = .ok (.iadd, 1) := dk_96 (dk_at dksL_law_38 3 rfl rfl)
theorem dL_law_1032 : decode cL_law 1032 = .ok (.iaload, 1) := dk_46 (dk_at dksL_law_38 4 rfl rfl)
theorem dL_law_1033 : decode cL_law 1033 = .ok (.aload_n 0, 1) := dk_42 (dk_at dksL_law_38 5 rfl rfl)
theorem dL_law_1034 : decode cL_law 1034 = .ok (.iload 5, 2) := dk_21 5 (dk_at dksL_law_38 6 rfl rfl)
theorem dL_law_1036 : decode cL_law 1036 = .ok (.iconst 2, 1) := dk_5 (dk_at dksL_law_38 8 rfl rfl)
theorem dL_law_1037 : decode cL_law 1037 = .ok (.iadd, 1) := dk_96 (dk_at dksL_law_38 9 rfl rfl)
theorem dL_law_1038 : decode cL_law 1038 = .ok (.iaload, 1) := dk_46 (dk_at dksL_law_38 10 rfl rfl)
theorem dL_law_1039 : decode cL_law 1039 = .ok (.invokevirtual 185, 3) := dk_182 0 185 (dk_at dksL_law_38 11 rfl rfl)
theorem dL_law_1042 : decode cL_law 1042 = .ok (.istore 7, 2) := dk_54 7 (dk_at dksL_law_38 14 rfl rfl)
theorem dL_law_1044 : decode cL_law 1044 = .ok (.aload_n 2, 1) := dk_44 (dk_at dksL_law_38 16 rfl rfl)
theorem dL_law_1045 : decode cL_law 1045 = .ok (.invokevirtual 148, 3) := dk_182 0 148 (dk_at dksL_law_38 17 rfl rfl)
theorem dL_law_1048 : decode cL_law 1048 = .ok (.iload 6, 2) := dk_21 6 (dk_at dksL_law_38 20 rfl rfl)
theorem dL_law_1050 : decode cL_law 1050 = .ok (.if_icmp .eq 5, 3) := dk_159 0 5 (dk_at dksL_law_39 0 rfl rfl)
theorem dL_law_1053 : decode cL_law 1053 = .ok (.iconst 0, 1) := dk_3 (dk_at dksL_law_39 3 rfl rfl)
theorem dL_law_1054 : decode cL_law 1054 = .ok (.ireturn, 1) := dk_172 (dk_at dksL_law_39 4 rfl rfl)
theorem dL_law_1055 : decode cL_law 1055 = .ok (.iload 6, 2) := dk_21 6 (dk_at dksL_law_39 5 rfl rfl)
theorem dL_law_1057 : decode cL_law 1057 = .ok (.ifCond .ne 15, 3) := dk_154 0 15 (dk_at dksL_law_39 7 rfl rfl)
theorem dL_law_1060 : decode cL_law 1060 = .ok (.aload_n 3, 1) := dk_45 (dk_at dksL_law_39 10 rfl rfl)
theorem dL_law_1061 : decode cL_law 1061 = .ok (.iconst 0, 1) := dk_3 (dk_at dksL_law_39 11 rfl rfl)
theorem dL_law_1062 : decode cL_law 1062 = .ok (.laload, 1) := dk_47 (dk_at dksL_law_39 12 rfl rfl)
theorem dL_law_1063 : decode cL_law 1063 = .ok (.iload 7, 2) := dk_21 7 (dk_at dksL_law_39 13 rfl rfl)
theorem dL_law_1065 : decode cL_law 1065 = .ok (.i2l, 1) := dk_133 (dk_at dksL_law_39 15 rfl rfl)
theorem dL_law_1066 : decode cL_law 1066 = .ok (.lcmp, 1) := dk_148 (dk_at dksL_law_39 16 rfl rfl)
theorem dL_law_1067 : decode cL_law 1067 = .ok (.ifCond .eq 5, 3) := dk_153 0 5 (dk_at dksL_law_39 17 rfl rfl)
theorem dL_law_1070 : decode cL_law 1070 = .ok (.iconst 0, 1) := dk_3 (dk_at dksL_law_39 20 rfl rfl)
theorem dL_law_1071 : decode cL_law 1071 = .ok (.ireturn, 1) := dk_172 (dk_at dksL_law_39 21 rfl rfl)
theorem dL_law_1072 : decode cL_law 1072 = .ok (.goto 1430, 3) := dk_167 5 150 (dk_at dksL_law_40 0 rfl rfl)
theorem dL_law_1075 : decode cL_law 1075 = .ok (.aload_n 1, 1) := dk_43 (dk_at dksL_law_40 3 rfl rfl)
theorem dL_law_1076 : decode cL_law 1076 = .ok (.aload_n 0, 1) := dk_42 (dk_at dksL_law_40 4 rfl rfl)
theorem dL_law_1077 : decode cL_law 1077 = .ok (.iload 5, 2) := dk_21 5 (dk_at dksL_law_40 5 rfl rfl)
theorem dL_law_1079 : decode cL_law 1079 = .ok (.iconst 1, 1) := dk_4 (dk_at dksL_law_40 7 rfl rfl)
theorem dL_law_1080 : decode cL_law 1080 = .ok (.iadd, 1) := dk_96 (dk_at dksL_law_40 8 rfl rfl)
theorem dL_law_1081 : decode cL_law 1081 = .ok (.iaload, 1) := dk_46 (dk_at dksL_law_40 9 rfl rfl)
theorem dL_law_1082 : decode cL_law 1082 = .ok (.aload_n 0, 1) := dk_42 (dk_at dksL_law_40 10 rfl rfl)
theorem dL_law_1083 : decode cL_law 1083 = .ok (.iload 5, 2) := dk_21 5 (dk_at dksL_law_40 11 rfl rfl)
theorem dL_law_1085 : decode cL_law 1085 = .ok (.iconst 2, 1) := dk_5 (dk_at dksL_law_40 13 rfl rfl)
theorem dL_law_1086 : decode cL_law 1086 = .ok (.iadd, 1) := dk_96 (dk_at dksL_law_40 14 rfl rfl)
theorem dL_law_1087 : decode cL_law 1087 = .ok (.iaload, 1) := dk_46 (dk_at dksL_law_40 15 rfl rfl)
theorem dL_law_1088 : decode cL_law 1088 = .ok (.aload_n 3, 1) := dk_45 (dk_at dksL_law_40 16 rfl rfl)
theorem dL_law_1089 : decode cL_law 1089 = .ok (.invokestatic 186, 3) := dk_184 0 186 (dk_at dksL_law_40 17 rfl rfl)
theorem dL_law_1092 : decode cL_law 1092 = .ok (.istore 6, 2) := dk_54 6 (dk_at dksL_law_40 20 rfl rfl)
theorem dL_law_1094 : decode cL_law 1094 = .ok (.aload_n 2, 1) := dk_44 (dk_at dksL_law_40 22 rfl rfl)
theorem dL_law_1095 : decode cL_law 1095 = .ok (.aload_n 0, 1) := dk_42 (dk_at dksL_law_40 23 rfl rfl)
theorem dL_law_1096 : decode cL_law 1096 = .ok (.iload 5, 2) := dk_21 5 (dk_at dksL_law_41 0 rfl rfl)
theorem dL_law_1098 : decode cL_law 1098 = .ok (.iconst 1, 1) := dk_4 (dk_at dksL_law_41 2 rfl rfl)
theorem dL_law_1099 : decode cL_law 1099 = .ok (.iadd, 1) := dk_96 (dk_at dksL_law_41 3 rfl rfl)
theorem dL_law_1100 : decode cL_law 1100 = .ok (.iaload, 1) := dk_46 (dk_at dksL_law_41 4 rfl rfl)
theorem dL_law_1101 : decode cL_law 1101 = .ok (.aload_n 0, 1) := dk_42 (dk_at dksL_law_41 5 rfl rfl)
theorem dL_law_1102 : decode cL_law 1102 = .ok (.iload 5, 2) := dk_21 5 (dk_at dksL_law_41 6 rfl rfl)
theorem dL_law_1104 : decode cL_law 1104 = .ok (.iconst 2, 1) := dk_5 (dk_at dksL_law_41 8 rfl rfl)
theorem dL_law_1105 : decode cL_law 1105 = .ok (.iadd, 1) := dk_96 (dk_at dksL_law_41 9 rfl rfl)
theorem dL_law_1106 : decode cL_law 1106 = .ok (.iaload, 1) := dk_46 (dk_at dksL_law_41 10 rfl rfl)
theorem dL_law_1107 : decode cL_law 1107 = .ok (.invokevirtual 188, 3) := dk_182 0 188 (dk_at dksL_law_41 11 rfl rfl)
theorem dL_law_1110 : decode cL_law 1110 = .ok (.istore 7, 2) := dk_54 7 (dk_at dksL_law_41 14 rfl rfl)
theorem dL_law_1112 : decode cL_law 1112 = .ok (.aload_n 2, 1) := dk_44 (dk_at dksL_law_41 16 rfl rfl)
theorem dL_law_1113 : decode cL_law 1113 = .ok (.invokevirtual 148, 3) := dk_182 0 148 (dk_at dksL_law_41 17 rfl rfl)
theorem dL_law_1116 : decode cL_law 1116 = .ok (.iload 6, 2) := dk_21 6 (dk_at dksL_law_41 20 rfl rfl)
theorem dL_law_1118 : decode cL_law 1118 = .ok (.if_icmp .eq 5, 3) := dk_159 0 5 (dk_at dksL_law_42 0 rfl rfl)
theorem dL_law_1121 : decode cL_law 1121 = .ok (.iconst 0, 1) := dk_3 (dk_at dksL_law_42 3 rfl rfl)
theorem dL_law_1122 : decode cL_law 1122 = .ok (.ireturn, 1) := dk_172 (dk_at dksL_law_42 4 rfl rfl)
theorem dL_law_1123 : decode cL_law 1123 = .ok (.iload 6, 2) := dk_21 6 (dk_at dksL_law_42 5 rfl rfl)
theorem dL_law_1125 : decode cL_law 1125 = .ok (.ifCond .ne 15, 3) := dk_154 0 15 (dk_at dksL_law_42 7 rfl rfl)
theorem dL_law_1128 : decode cL_law 1128 = .ok (.aload_n 3, 1) := dk_45 (dk_at dksL_law_42 10 rfl rfl)
theorem dL_law_1129 : decode cL_law 1129 = .ok (.iconst 0, 1) := dk_3 (dk_at dksL_law_42 11 rfl rfl)
theorem dL_law_1130 : decode cL_law 1130 = .ok (.laload, 1) := dk_47 (dk_at dksL_law_42 12 rfl rfl)
theorem dL_law_1131 : decode cL_law 1131 = .ok (.iload 7, 2) := dk_21 7 (dk_at dksL_law_42 13 rfl rfl)
theorem dL_law_1133 : decode cL_law 1133 = .ok (.i2l, 1) := dk_133 (dk_at dksL_law_42 15 rfl rfl)
theorem dL_law_1134 : decode cL_law 1134 = .ok (.lcmp, 1) := dk_148 (dk_at dksL_law_42 16 rfl rfl)
theorem dL_law_1135 : decode cL_law 1135 = .ok (.ifCond .eq 5, 3) := dk_153 0 5 (dk_at dksL_law_42 17 rfl rfl)
theorem dL_law_1138 : decode cL_law 1138 = .ok (.iconst 0, 1) := dk_3 (dk_at dksL_law_42 20 rfl rfl)
theorem dL_law_1139 : decode cL_law 1139 = .ok (.ireturn, 1) := dk_172 (dk_at dksL_law_42 21 rfl rfl)
theorem dL_law_1140 : decode cL_law 1140 = .ok (.goto 1362, 3) := dk_167 5 82 (dk_at dksL_law_43 0 rfl rfl)
theorem dL_law_1143 : decode cL_law 1143 = .ok (.aload_n 1, 1) := dk_43 (dk_at dksL_law_43 3 rfl rfl)
theorem dL_law_1144 : decode cL_law 1144 = .ok (.aload_n 0, 1) := dk_42 (dk_at dksL_law_43 4 rfl rfl)
theorem dL_law_1145 : decode cL_law 1145 = .ok (.iload 5, 2) := dk_21 5 (dk_at dksL_law_43 5 rfl rfl)
theorem dL_law_1147 : decode cL_law 1147 = .ok (.iconst 1, 1) := dk_4 (dk_at dksL_law_43 7 rfl rfl)
theorem dL_law_1148 : decode cL_law 1148 = .ok (.iadd, 1) := dk_96 (dk_at dksL_law_43 8 rfl rfl)
theorem dL_law_1149 : decode cL_law 1149 = .ok (.iaload, 1) := dk_46 (dk_at dksL_law_43 9 rfl rfl)
theorem dL_law_1150 : decode cL_law 1150 = .ok (.aload_n 0, 1) := dk_42 (dk_at dksL_law_43 10 rfl rfl)
theorem dL_law_1151 : decode cL_law 1151 = .ok (.iload 5, 2) := dk_21 5 (dk_at dksL_law_43 11 rfl rfl)
theorem dL_law_1153 : decode cL_law 1153 = .ok (.iconst 2, 1) := dk_5 (dk_at dksL_law_43 13 rfl rfl)
theorem dL_law_1154 : decode cL_law 1154 = .ok (.iadd, 1) := dk_96 (dk_at dksL_law_43 14 rfl rfl)
theorem dL_law_1155 : decode cL_law 1155 = .ok (.iaload, 1) := dk_46 (dk_at dksL_law_43 15 rfl rfl)
theorem dL_law_1156 : decode cL_law 1156 = .ok (.aload_n 3, 1) := dk_45 (dk_at dksL_law_43 16 rfl rfl)
theorem dL_law_1157 : decode cL_law 1157 = .ok (.invokestatic 189, 3) := dk_184 0 189 (dk_at dksL_law_43 17 rfl rfl)
theorem dL_law_1160 : decode cL_law 1160 = .ok (.istore 6, 2) := dk_54 6 (dk_at dksL_law_43 20 rfl rfl)
theorem dL_law_1162 : decode cL_law 1162 = .ok (.aload_n 2, 1) := dk_44 (dk_at dksL_law_43 22 rfl rfl)
theorem dL_law_1163 : decode cL_law 1163 = .ok (.aload_n 0, 1) := dk_42 (dk_at dksL_law_43 23 rfl rfl)
theorem dL_law_1164 : decode cL_law 1164 = .ok (.iload 5, 2) := dk_21 5 (dk_at dksL_law_44 0 rfl rfl)
theorem dL_law_1166 : decode cL_law 1166 = .ok (.iconst 1, 1) := dk_4 (dk_at dksL_law_44 2 rfl rfl)
theorem dL_law_1167 : decode cL_law 1167 = .ok (.iadd, 1) := dk_96 (dk_at dksL_law_44 3 rfl rfl)
theorem dL_law_1168 : decode cL_law 1168 = .ok (.iaload, 1) := dk_46 (dk_at dksL_law_44 4 rfl rfl)
theorem dL_law_1169 : decode cL_law 1169 = .ok (.aload_n 0, 1) := dk_42 (dk_at dksL_law_44 5 rfl rfl)
theorem dL_law_1170 : decode cL_law 1170 = .ok (.iload 5, 2) := dk_21 5 (dk_at dksL_law_44 6 rfl rfl)
theorem dL_law_1172 : decode cL_law 1172 = .ok (.iconst 2, 1) := dk_5 (dk_at dksL_law_44 8 rfl rfl)
theorem dL_law_1173 : decode cL_law 1173 = .ok (.iadd, 1) := dk_96 (dk_at dksL_law_44 9 rfl rfl)
theorem dL_law_1174 : decode cL_law 1174 = .ok (.iaload, 1) := dk_46 (dk_at dksL_law_44 10 rfl rfl)
theorem dL_law_1175 : decode cL_law 1175 = .ok (.invokevirtual 191, 3) := dk_182 0 191 (dk_at dksL_law_44 11 rfl rfl)
theorem dL_law_1178 : decode cL_law 1178 = .ok (.istore 7, 2) := dk_54 7 (dk_at dksL_law_44 14 rfl rfl)
theorem dL_law_1180 : decode cL_law 1180 = .ok (.aload_n 2, 1) := dk_44 (dk_at dksL_law_44 16 rfl rfl)
theorem dL_law_1181 : decode cL_law 1181 = .ok (.invokevirtual 148, 3) := dk_182 0 148 (dk_at dksL_law_44 17 rfl rfl)
theorem dL_law_1184 : decode cL_law 1184 = .ok (.iload 6, 2) := dk_21 6 (dk_at dksL_law_44 20 rfl rfl)
theorem dL_law_1186 : decode cL_law 1186 = .ok (.if_icmp .eq 5, 3) := dk_159 0 5 (dk_at dksL_law_45 0 rfl rfl)
theorem dL_law_1189 : decode cL_law 1189 = .ok (.iconst 0, 1) := dk_3 (dk_at dksL_law_45 3 rfl rfl)
theorem dL_law_1190 : decode cL_law 1190 = .ok (.ireturn, 1) := dk_172 (dk_at dksL_law_45 4 rfl rfl)
theorem dL_law_1191 : decode cL_law 1191 = .ok (.iload 6, 2) := dk_21 6 (dk_at dksL_law_45 5 rfl rfl)
theorem dL_law_1193 : decode cL_law 1193 = .ok (.ifCond .ne 15, 3) := dk_154 0 15 (dk_at dksL_law_45 7 rfl rfl)
theorem dL_law_1196 : decode cL_law 1196 = .ok (.aload_n 3, 1) := dk_45 (dk_at dksL_law_45 10 rfl rfl)
theorem dL_law_1197 : decode cL_law 1197 = .ok (.iconst 0, 1) := dk_3 (dk_at dksL_law_45 11 rfl rfl)
theorem dL_law_1198 : decode cL_law 1198 = .ok (.laload, 1) := dk_47 (dk_at dksL_law_45 12 rfl rfl)
theorem dL_law_1199 : decode cL_law 1199 = .ok (.iload 7, 2) := dk_21 7 (dk_at dksL_law_45 13 rfl rfl)
theorem dL_law_1201 : decode cL_law 1201 = .ok (.i2l, 1) := dk_133 (dk_at dksL_law_45 15 rfl rfl)
theorem dL_law_1202 : decode cL_law 1202 = .ok (.lcmp, 1) := dk_148 (dk_at dksL_law_45 16 rfl rfl)
theorem dL_law_1203 : decode cL_law 1203 = .ok (.ifCond .eq 5, 3) := dk_153 0 5 (dk_at dksL_law_45 17 rfl rfl)
theorem dL_law_1206 : decode cL_law 1206 = .ok (.iconst 0, 1) := dk_3 (dk_at dksL_law_45 20 rfl rfl)
theorem dL_law_1207 : decode cL_law 1207 = .ok (.ireturn, 1) := dk_172 (dk_at dksL_law_45 21 rfl rfl)
theorem dL_law_1208 : decode cL_law 1208 = .ok (.goto 1294, 3) := dk_167 5 14 (dk_at dksL_law_46 0 rfl rfl)
theorem dL_law_1211 : decode cL_law 1211 = .ok (.aload_n 1, 1) := dk_43 (dk_at dksL_law_46 3 rfl rfl)
theorem dL_law_1212 : decode cL_law 1212 = .ok (.aload_n 0, 1) := dk_42 (dk_at dksL_law_46 4 rfl rfl)
theorem dL_law_1213 : decode cL_law 1213 = .ok (.iload 5, 2) := dk_21 5 (dk_at dksL_law_46 5 rfl rfl)
theorem dL_law_1215 : decode cL_law 1215 = .ok (.iconst 1, 1) := dk_4 (dk_at dksL_law_46 7 rfl rfl)
theorem dL_law_1216 : decode cL_law 1216 = .ok (.iadd, 1) := dk_96 (dk_at dksL_law_46 8 rfl rfl)
theorem dL_law_1217 : decode cL_law 1217 = .ok (.iaload, 1) := dk_46 (dk_at dksL_law_46 9 rfl rfl)
theorem dL_law_1218 : decode cL_law 1218 = .ok (.aload_n 0, 1) := dk_42 (dk_at dksL_law_46 10 rfl rfl)
theorem dL_law_1219 : decode cL_law 1219 = .ok (.iload 5, 2) := dk_21 5 (dk_at dksL_law_46 11 rfl rfl)
theorem dL_law_1221 : decode cL_law 1221 = .ok (.iconst 2, 1) := dk_5 (dk_at dksL_law_46 13 rfl rfl)
theorem dL_law_1222 : decode cL_law 1222 = .ok (.iadd, 1) := dk_96 (dk_at dksL_law_46 14 rfl rfl)
theorem dL_law_1223 : decode cL_law 1223 = .ok (.iaload, 1) := dk_46 (dk_at dksL_law_46 15 rfl rfl)
theorem dL_law_1224 : decode cL_law 1224 = .ok (.aload_n 3, 1) := dk_45 (dk_at dksL_law_46 16 rfl rfl)
theorem dL_law_1225 : decode cL_law 1225 = .ok (.invokestatic 192, 3) := dk_184 0 192 (dk_at dksL_law_46 17 rfl rfl)
theorem dL_law_1228 : decode cL_law 1228 = .ok (.istore 6, 2) := dk_54 6 (dk_at dksL_law_46 20 rfl rfl)
theorem dL_law_1230 : decode cL_law 1230 = .ok (.aload_n 2, 1) := dk_44 (dk_at dksL_law_46 22 rfl rfl)
theorem dL_law_1231 : decode cL_law 1231 = .ok (.aload_n 0, 1) := dk_42 (dk_at dksL_law_46 23 rfl rfl)
theorem dL_law_1232 : decode cL_law 1232 = .ok (.iload 5, 2) := dk_21 5 (dk_at dksL_law_47 0 rfl rfl)
theorem dL_law_1234 : decode cL_law 1234 = .ok (.iconst 1, 1) := dk_4 (dk_at dksL_law_47 2 rfl rfl)
theorem dL_law_1235 : decode cL_law 1235 = .ok (.iadd, 1) := dk_96 (dk_at dksL_law_47 3 rfl rfl)
theorem dL_law_1236 : decode cL_law 1236 = .ok (.iaload, 1) := dk_46 (dk_at dksL_law_47 4 rfl rfl)
theorem dL_law_1237 : decode cL_law 1237 = .ok (.aload_n 0, 1) := dk_42 (dk_at dksL_law_47 5 rfl rfl)
theorem dL_law_1238 : decode cL_law 1238 = .ok (.iload 5, 2) := dk_21 5 (dk_at dksL_law_47 6 rfl rfl)
theorem dL_law_1240 : decode cL_law 1240 = .ok (.iconst 2, 1) := dk_5 (dk_at dksL_law_47 8 rfl rfl)
theorem dL_law_1241 : decode cL_law 1241 = .ok (.iadd, 1) := dk_96 (dk_at dksL_law_47 9 rfl rfl)
theorem dL_law_1242 : decode cL_law 1242 = .ok (.iaload, 1) := dk_46 (dk_at dksL_law_47 10 rfl rfl)
theorem dL_law_1243 : decode cL_law 1243 = .ok (.invokevirtual 194, 3) := dk_182 0 194 (dk_at dksL_law_47 11 rfl rfl)
theorem dL_law_1246 : decode cL_law 1246 = .ok (.istore 7, 2) := dk_54 7 (dk_at dksL_law_47 14 rfl rfl)
theorem dL_law_1248 : decode cL_law 1248 = .ok (.aload_n 2, 1) := dk_44 (dk_at dksL_law_47 16 rfl rfl)
theorem dL_law_1249 : decode cL_law 1249 = .ok (.invokevirtual 148, 3) := dk_182 0 148 (dk_at dksL_law_47 17 rfl rfl)
theorem dL_law_1252 : decode cL_law 1252 = .ok (.iload 6, 2) := dk_21 6 (dk_at dksL_law_47 20 rfl rfl)
theorem dL_law_1254 : decode cL_law 1254 = .ok (.if_icmp .eq 5, 3) := dk_159 0 5 (dk_at dksL_law_48 0 rfl rfl)
theorem dL_law_1257 : decode cL_law 1257 = .ok (.iconst 0, 1) := dk_3 (dk_at dksL_law_48 3 rfl rfl)
theorem dL_law_1258 : decode cL_law 1258 = .ok (.ireturn, 1) := dk_172 (dk_at dksL_law_48 4 rfl rfl)
theorem dL_law_1259 : decode cL_law 1259 = .ok (.iload 6, 2) := dk_21 6 (dk_at dksL_law_48 5 rfl rfl)
theorem dL_law_1261 : decode cL_law 1261 = .ok (.ifCond .ne 15, 3) := dk_154 0 15 (dk_at dksL_law_48 7 rfl rfl)
theorem dL_law_1264 : decode cL_law 1264 = .ok (.aload_n 3, 1) := dk_45 (dk_at dksL_law_48 10 rfl rfl)
theorem dL_law_1265 : decode cL_law 1265 = .ok (.iconst 0, 1) := dk_3 (dk_at dksL_law_48 11 rfl rfl)
theorem dL_law_1266 : decode cL_law 1266 = .ok (.laload, 1) := dk_47 (dk_at dksL_law_48 12 rfl rfl)
theorem dL_law_1267 : decode cL_law 1267 = .ok (.iload 7, 2) := dk_21 7 (dk_at dksL_law_48 13 rfl rfl)
theorem dL_law_1269 : decode cL_law 1269 = .ok (.i2l, 1) := dk_133 (dk_at dksL_law_48 15 rfl rfl)
theorem dL_law_1270 : decode cL_law 1270 = .ok (.lcmp, 1) := dk_148 (dk_at dksL_law_48 16 rfl rfl)
theorem dL_law_1271 : decode cL_law 1271 = .ok (.ifCond .eq 5, 3) := dk_153 0 5 (dk_at dksL_law_48 17 rfl rfl)
theorem dL_law_1274 : decode cL_law 1274 = .ok (.iconst 0, 1) := dk_3 (dk_at dksL_law_48 20 rfl rfl)
theorem dL_law_1275 : decode cL_law 1275 = .ok (.ireturn, 1) := dk_172 (dk_at dksL_law_48 21 rfl rfl)
theorem dL_law_1276 : decode cL_law 1276 = .ok (.goto 1226, 3) := dk_167 4 202 (dk_at dksL_law_49 0 rfl rfl)
theorem dL_law_1279 : decode cL_law 1279 = .ok (.aload_n 1, 1) := dk_43 (dk_at dksL_law_49 3 rfl rfl)
theorem dL_law_1280 : decode cL_law 1280 = .ok (.aload_n 0, 1) := dk_42 (dk_at dksL_law_49 4 rfl rfl)
theorem dL_law_1281 : decode cL_law 1281 = .ok (.iload 5, 2) := dk_21 5 (dk_at dksL_law_49 5 rfl rfl)
theorem dL_law_1283 : decode cL_law 1283 = .ok (.iconst 1, 1) := dk_4 (dk_at dksL_law_49 7 rfl rfl)
theorem dL_law_1284 : decode cL_law 1284 = .ok (.iadd, 1) := dk_96 (dk_at dksL_law_49 8 rfl rfl)
theorem dL_law_1285 : decode cL_law 1285 = .ok (.iaload, 1) := dk_46 (dk_at dksL_law_49 9 rfl rfl)
theorem dL_law_1286 : decode cL_law 1286 = .ok (.aload_n 3, 1) := dk_45 (dk_at dksL_law_49 10 rfl rfl)
theorem dL_law_1287 : decode cL_law 1287 = .ok (.invokestatic 195, 3) := dk_184 0 195 (dk_at dksL_law_49 11 rfl rfl)
theorem dL_law_1290 : decode cL_law 1290 = .ok (.istore 6, 2) := dk_54 6 (dk_at dksL_law_49 14 rfl rfl)
theorem dL_law_1292 : decode cL_law 1292 = .ok (.aload_n 2, 1) := dk_44 (dk_at dksL_law_49 16 rfl rfl)
theorem dL_law_1293 : decode cL_law 1293 = .ok (.aload_n 0, 1) := dk_42 (dk_at dksL_law_49 17 rfl rfl)
theorem dL_law_1294 : decode cL_law 1294 = .ok (.iload 5, 2) := dk_21 5 (dk_at dksL_law_49 18 rfl rfl)
theorem dL_law_1296 : decode cL_law 1296 = .ok (.iconst 1, 1) := dk_4 (dk_at dksL_law_49 20 rfl rfl)
theorem dL_law_1297 : decode cL_law 1297 = .ok (.iadd, 1) := dk_96 (dk_at dksL_law_49 21 rfl rfl)
theorem dL_law_1298 : decode cL_law 1298 = .ok (.iaload, 1) := dk_46 (dk_at dksL_law_49 22 rfl rfl)
theorem dL_law_1299 : decode cL_law 1299 = .ok (.invokevirtual 197, 3) := dk_182 0 197 (dk_at dksL_law_50 0 rfl rfl)
theorem dL_law_1302 : decode cL_law 1302 = .ok (.istore 7, 2) := dk_54 7 (dk_at dksL_law_50 3 rfl rfl)
theorem dL_law_1304 : decode cL_law 1304 = .ok (.aload_n 2, 1) := dk_44 (dk_at dksL_law_50 5 rfl rfl)
theorem dL_law_1305 : decode cL_law 1305 = .ok (.invokevirtual 148, 3) := dk_182 0 148 (dk_at dksL_law_50 6 rfl rfl)
theorem dL_law_1308 : decode cL_law 1308 = .ok (.iload 6, 2) := dk_21 6 (dk_at dksL_law_50 9 rfl rfl)
theorem dL_law_1310 : decode cL_law 1310 = .ok (.if_icmp .eq 5, 3) := dk_159 0 5 (dk_at dksL_law_50 11 rfl rfl)
theorem dL_law_1313 : decode cL_law 1313 = .ok (.iconst 0, 1) := dk_3 (dk_at dksL_law_50 14 rfl rfl)
theorem dL_law_1314 : decode cL_law 1314 = .ok (.ireturn, 1) := dk_172 (dk_at dksL_law_50 15 rfl rfl)
theorem dL_law_1315 : decode cL_law 1315 = .ok (.iload 6, 2) := dk_21 6 (dk_at dksL_law_50 16 rfl rfl)
theorem dL_law_1317 : decode cL_law 1317 = .ok (.ifCond .ne 15, 3) := dk_154 0 15 (dk_at dksL_law_50 18 rfl rfl)
theorem dL_law_1320 : decode cL_law 1320 = .ok (.aload_n 3, 1) := dk_45 (dk_at dksL_law_50 21 rfl rfl)
theorem dL_law_1321 : decode cL_law 1321 = .ok (.iconst 0, 1) := dk_3 (dk_at dksL_law_50 22 rfl rfl)
theorem dL_law_1322 : decode cL_law 1322 = .ok (.laload, 1) := dk_47 (dk_at dksL_law_50 23 rfl rfl)
theorem dL_law_1323 : decode cL_law 1323 = .ok (.iload 7, 2) := dk_21 7 (dk_at dksL_law_51 0 rfl rfl)
theorem dL_law_1325 : decode cL_law 1325 = .ok (.i2l, 1) := dk_133 (dk_at dksL_law_51 2 rfl rfl)
theorem dL_law_1326 : decode cL_law 1326 = .ok (.lcmp, 1) := dk_148 (dk_at dksL_law_51 3 rfl rfl)
theorem dL_law_1327 : decode cL_law 1327 = .ok (.ifCond .eq 5, 3) := dk_153 0 5 (dk_at dksL_law_51 4 rfl rfl)
theorem dL_law_1330 : decode cL_law 1330 = .ok (.iconst 0, 1) := dk_3 (dk_at dksL_law_51 7 rfl rfl)
theorem dL_law_1331 : decode cL_law 1331 = .ok (.ireturn, 1) := dk_172 (dk_at dksL_law_51 8 rfl rfl)
theorem dL_law_1332 : decode cL_law 1332 = .ok (.goto 1170, 3) := dk_167 4 146 (dk_at dksL_law_51 9 rfl rfl)
theorem dL_law_1335 : decode cL_law 1335 = .ok (.aload_n 1, 1) := dk_43 (dk_at dksL_law_51 12 rfl rfl)
theorem dL_law_1336 : decode cL_law 1336 = .ok (.aload_n 0, 1) := dk_42 (dk_at dksL_law_51 13 rfl rfl)
theorem dL_law_1337 : decode cL_law 1337 = .ok (.iload 5, 2) := dk_21 5 (dk_at dksL_law_51 14 rfl rfl)
theorem dL_law_1339 : decode cL_law 1339 = .ok (.iconst 1, 1) := dk_4 (dk_at dksL_law_51 16 rfl rfl)
theorem dL_law_1340 : decode cL_law 1340 = .ok (.iadd, 1) := dk_96 (dk_at dksL_law_51 17 rfl rfl)
theorem dL_law_1341 : decode cL_law 1341 = .ok (.iaload, 1) := dk_46 (dk_at dksL_law_51 18 rfl rfl)
theorem dL_law_1342 : decode cL_law 1342 = .ok (.aload_n 3, 1) := dk_45 (dk_at dksL_law_51 19 rfl rfl)
theorem dL_law_1343 : decode cL_law 1343 = .ok (.invokestatic 198, 3) := dk_184 0 198 (dk_at dksL_law_51 20 rfl rfl)
theorem dL_law_1346 : decode cL_law 1346 = .ok (.istore 6, 2) := dk_54 6 (dk_at dksL_law_52 0 rfl rfl)
theorem dL_law_1348 : decode cL_law 1348 = .ok (.aload_n 2, 1) := dk_44 (dk_at dksL_law_52 2 rfl rfl)
theorem dL_law_1349 : decode cL_law 1349 = .ok (.aload_n 0, 1) := dk_42 (dk_at dksL_law_52 3 rfl rfl)
theorem dL_law_1350 : decode cL_law 1350 = .ok (.iload 5, 2) := dk_21 5 (dk_at dksL_law_52 4 rfl rfl)
theorem dL_law_1352 : decode cL_law 1352 = .ok (.iconst 1, 1) := dk_4 (dk_at dksL_law_52 6 rfl rfl)
theorem dL_law_1353 : decode cL_law 1353 = .ok (.iadd, 1) := dk_96 (dk_at dksL_law_52 7 rfl rfl)
theorem dL_law_1354 : decode cL_law 1354 = .ok (.iaload, 1) := dk_46 (dk_at dksL_law_52 8 rfl rfl)
theorem dL_law_1355 : decode cL_law 1355 = .ok (.invokevirtual 200, 3) := dk_182 0 200 (dk_at dksL_law_52 9 rfl rfl)
theorem dL_law_1358 : decode cL_law 1358 = .ok (.istore 7, 2) := dk_54 7 (dk_at dksL_law_52 12 rfl rfl)
theorem dL_law_1360 : decode cL_law 1360 = .ok (.aload_n 2, 1) := dk_44 (dk_at dksL_law_52 14 rfl rfl)
theorem dL_law_1361 : decode cL_law 1361 = .ok (.invokevirtual 148, 3) := dk_182 0 148 (dk_at dksL_law_52 15 rfl rfl)
theorem dL_law_1364 : decode cL_law 1364 = .ok (.iload 6, 2) := dk_21 6 (dk_at dksL_law_52 18 rfl rfl)
theorem dL_law_1366 : decode cL_law 1366 = .ok (.if_icmp .eq 5, 3) := dk_159 0 5 (dk_at dksL_law_52 20 rfl rfl)
theorem dL_law_1369 : decode cL_law 1369 = .ok (.iconst 0, 1) := dk_3 (dk_at dksL_law_52 23 rfl rfl)
theorem dL_law_1370 : decode cL_law 1370 = .ok (.ireturn, 1) := dk_172 (dk_at dksL_law_53 0 rfl rfl)
theorem dL_law_1371 : decode cL_law 1371 = .ok (.iload 6, 2) := dk_21 6 (dk_at dksL_law_53 1 rfl rfl)
theorem dL_law_1373 : decode cL_law 1373 = .ok (.ifCond .ne 15, 3) := dk_154 0 15 (dk_at dksL_law_53 3 rfl rfl)
theorem dL_law_1376 : decode cL_law 1376 = .ok (.aload_n 3, 1) := dk_45 (dk_at dksL_law_53 6 rfl rfl)
theorem dL_law_1377 : decode cL_law 1377 = .ok (.iconst 0, 1) := dk_3 (dk_at dksL_law_53 7 rfl rfl)
theorem dL_law_1378 : decode cL_law 1378 = .ok (.laload, 1) := dk_47 (dk_at dksL_law_53 8 rfl rfl)
theorem dL_law_1379 : decode cL_law 1379 = .ok (.iload 7, 2) := dk_21 7 (dk_at dksL_law_53 9 rfl rfl)
theorem dL_law_1381 : decode cL_law 1381 = .ok (.i2l, 1) := dk_133 (dk_at dksL_law_53 11 rfl rfl)
theorem dL_law_1382 : decode cL_law 1382 = .ok (.lcmp, 1) := dk_148 (dk_at dksL_law_53 12 rfl rfl)
theorem dL_law_1383 : decode cL_law 1383 = .ok (.ifCond .eq 5, 3) := dk_153 0 5 (dk_at dksL_law_53 13 rfl rfl)
theorem dL_law_1386 : decode cL_law 1386 = .ok (.iconst 0, 1) := dk_3 (dk_at dksL_law_53 16 rfl rfl)
theorem dL_law_1387 : decode cL_law 1387 = .ok (.ireturn, 1) := dk_172 (dk_at dksL_law_53 17 rfl rfl)
theorem dL_law_1388 : decode cL_law 1388 = .ok (.goto 1114, 3) := dk_167 4 90 (dk_at dksL_law_53 18 rfl rfl)
theorem dL_law_1391 : decode cL_law 1391 = .ok (.aload_n 1, 1) := dk_43 (dk_at dksL_law_53 21 rfl rfl)
theorem dL_law_1392 : decode cL_law 1392 = .ok (.aload_n 0, 1) := dk_42 (dk_at dksL_law_53 22 rfl rfl)
theorem dL_law_1393 : decode cL_law 1393 = .ok (.iload 5, 2) := dk_21 5 (dk_at dksL_law_54 0 rfl rfl)
theorem dL_law_1395 : decode cL_law 1395 = .ok (.iconst 1, 1) := dk_4 (dk_at dksL_law_54 2 rfl rfl)
theorem dL_law_1396 : decode cL_law 1396 = .ok (.iadd, 1) := dk_96 (dk_at dksL_law_54 3 rfl rfl)
theorem dL_law_1397 : decode cL_law 1397 = .ok (.iaload, 1) := dk_46 (dk_at dksL_law_54 4 rfl rfl)
theorem dL_law_1398 : decode cL_law 1398 = .ok (.aload_n 0, 1) := dk_42 (dk_at dksL_law_54 5 rfl rfl)
theorem dL_law_1399 : decode cL_law 1399 = .ok (.iload 5, 2) := dk_21 5 (dk_at dksL_law_54 6 rfl rfl)
theorem dL_law_1401 : decode cL_law 1401 = .ok (.iconst 2, 1) := dk_5 (dk_at dksL_law_54 8 rfl rfl)
theorem dL_law_1402 : decode cL_law 1402 = .ok (.iadd, 1) := dk_96 (dk_at dksL_law_54 9 rfl rfl)
theorem dL_law_1403 : decode cL_law 1403 = .ok (.iaload, 1) := dk_46 (dk_at dksL_law_54 10 rfl rfl)
theorem dL_law_1404 : decode cL_law 1404 = .ok (.aload_n 3, 1) := dk_45 (dk_at dksL_law_54 11 rfl rfl)
theorem dL_law_1405 : decode cL_law 1405 = .ok (.invokestatic 201, 3) := dk_184 0 201 (dk_at dksL_law_54 12 rfl rfl)
theorem dL_law_1408 : decode cL_law 1408 = .ok (.istore 6, 2) := dk_54 6 (dk_at dksL_law_54 15 rfl rfl)
theorem dL_law_1410 : decode cL_law 1410 = .ok (.aload_n 2, 1) := dk_44 (dk_at dksL_law_54 17 rfl rfl)
theorem dL_law_1411 : decode cL_law 1411 = .ok (.aload_n 0, 1) := dk_42 (dk_at dksL_law_54 18 rfl rfl)
theorem dL_law_1412 : decode cL_law 1412 = .ok (.iload 5, 2) := dk_21 5 (dk_at dksL_law_54 19 rfl rfl)
theorem dL_law_1414 : decode cL_law 1414 = .ok (.iconst 1, 1) := dk_4 (dk_at dksL_law_54 21 rfl rfl)
theorem dL_law_1415 : decode cL_law 1415 = .ok (.iadd, 1) := dk_96 (dk_at dksL_law_54 22 rfl rfl)
theorem dL_law_1416 : decode cL_law 1416 = .ok (.iaload, 1) := dk_46 (dk_at dksL_law_54 23 rfl rfl)
theorem dL_law_1417 : decode cL_law 1417 = .ok (.aload_n 0, 1) := dk_42 (dk_at dksL_law_55 0 rfl rfl)
theorem dL_law_1418 : decode cL_law 1418 = .ok (.iload 5, 2) := dk_21 5 (dk_at dksL_law_55 1 rfl rfl)
theorem dL_law_1420 : decode cL_law 1420 = .ok (.iconst 2, 1) := dk_5 (dk_at dksL_law_55 3 rfl rfl)
theorem dL_law_1421 : decode cL_law 1421 = .ok (.iadd, 1) := dk_96 (dk_at dksL_law_55 4 rfl rfl)
theorem dL_law_1422 : decode cL_law 1422 = .ok (.iaload, 1) := dk_46 (dk_at dksL_law_55 5 rfl rfl)
theorem dL_law_1423 : decode cL_law 1423 = .ok (.invokevirtual 203, 3) := dk_182 0 203 (dk_at dksL_law_55 6 rfl rfl)
theorem dL_law_1426 : decode cL_law 1426 = .ok (.istore 7, 2) := dk_54 7 (dk_at dksL_law_55 9 rfl rfl)
theorem dL_law_1428 : decode cL_law 1428 = .ok (.aload_n 2, 1) := dk_44 (dk_at dksL_law_55 11 rfl rfl)
theorem dL_law_1429 : decode cL_law 1429 = .ok (.invokevirtual 148, 3) := dk_182 0 148 (dk_at dksL_law_55 12 rfl rfl)
theorem dL_law_1432 : decode cL_law 1432 = .ok (.iload 6, 2) := dk_21 6 (dk_at dksL_law_55 15 rfl rfl)
theorem dL_law_1434 : decode cL_law 1434 = .ok (.if_icmp .eq 5, 3) := dk_159 0 5 (dk_at dksL_law_55 17 rfl rfl)
theorem dL_law_1437 : decode cL_law 1437 = .ok (.iconst 0, 1) := dk_3 (dk_at dksL_law_55 20 rfl rfl)
theorem dL_law_1438 : decode cL_law 1438 = .ok (.ireturn, 1) := dk_172 (dk_at dksL_law_55 21 rfl rfl)
theorem dL_law_1439 : decode cL_law 1439 = .ok (.iload 6, 2) := dk_21 6 (dk_at dksL_law_55 22 rfl rfl)
theorem dL_law_1441 : decode cL_law 1441 = .ok (.ifCond .ne 15, 3) := dk_154 0 15 (dk_at dksL_law_56 0 rfl rfl)
theorem dL_law_1444 : decode cL_law 1444 = .ok (.aload_n 3, 1) := dk_45 (dk_at dksL_law_56 3 rfl rfl)
theorem dL_law_1445 : decode cL_law 1445 = .ok (.iconst 0, 1) := dk_3 (dk_at dksL_law_56 4 rfl rfl)
theorem dL_law_1446 : decode cL_law 1446 = .ok (.laload, 1) := dk_47 (dk_at dksL_law_56 5 rfl rfl)
theorem dL_law_1447 : decode cL_law 1447 = .ok (.iload 7, 2) := dk_21 7 (dk_at dksL_law_56 6 rfl rfl)
theorem dL_law_1449 : decode cL_law 1449 = .ok (.i2l, 1) := dk_133 (dk_at dksL_law_56 8 rfl rfl)
theorem dL_law_1450 : decode cL_law 1450 = .ok (.lcmp, 1) := dk_148 (dk_at dksL_law_56 9 rfl rfl)
theorem dL_law_1451 : decode cL_law 1451 = .ok (.ifCond .eq 5, 3) := dk_153 0 5 (dk_at dksL_law_56 10 rfl rfl)
theorem dL_law_1454 : decode cL_law 1454 = .ok (.iconst 0, 1) := dk_3 (dk_at dksL_law_56 13 rfl rfl)
theorem dL_law_1455 : decode cL_law 1455 = .ok (.ireturn, 1) := dk_172 (dk_at dksL_law_56 14 rfl rfl)
theorem dL_law_1456 : decode cL_law 1456 = .ok (.goto 1046, 3) := dk_167 4 22 (dk_at dksL_law_56 15 rfl rfl)
theorem dL_law_1459 : decode cL_law 1459 = .ok (.aload_n 1, 1) := dk_43 (dk_at dksL_law_56 18 rfl rfl)
theorem dL_law_1460 : decode cL_law 1460 = .ok (.aload_n 0, 1) := dk_42 (dk_at dksL_law_56 19 rfl rfl)
theorem dL_law_1461 : decode cL_law 1461 = .ok (.iload 5, 2) := dk_21 5 (dk_at dksL_law_56 20 rfl rfl)
theorem dL_law_1463 : decode cL_law 1463 = .ok (.iconst 1, 1) := dk_4 (dk_at dksL_law_56 22 rfl rfl)
theorem dL_law_1464 : decode cL_law 1464 = .ok (.iadd, 1) := dk_96 (dk_at dksL_law_56 23 rfl rfl)
theorem dL_law_1465 : decode cL_law 1465 = .ok (.iaload, 1) := dk_46 (dk_at dksL_law_57 0 rfl rfl)
theorem dL_law_1466 : decode cL_law 1466 = .ok (.aload_n 3, 1) := dk_45 (dk_at dksL_law_57 1 rfl rfl)
theorem dL_law_1467 : decode cL_law 1467 = .ok (.invokestatic 204, 3) := dk_184 0 204 (dk_at dksL_law_57 2 rfl rfl)
theorem dL_law_1470 : decode cL_law 1470 = .ok (.istore 6, 2) := dk_54 6 (dk_at dksL_law_57 5 rfl rfl)
theorem dL_law_1472 : decode cL_law 1472 = .ok (.aload_n 2, 1) := dk_44 (dk_at dksL_law_57 7 rfl rfl)
theorem dL_law_1473 : decode cL_law 1473 = .ok (.aload_n 0, 1) := dk_42 (dk_at dksL_law_57 8 rfl rfl)
theorem dL_law_1474 : decode cL_law 1474 = .ok (.iload 5, 2) := dk_21 5 (dk_at dksL_law_57 9 rfl rfl)
theorem dL_law_1476 : decode cL_law 1476 = .ok (.iconst 1, 1) := dk_4 (dk_at dksL_law_57 11 rfl rfl)
theorem dL_law_1477 : decode cL_law 1477 = .ok (.iadd, 1) := dk_96 (dk_at dksL_law_57 12 rfl rfl)
theorem dL_law_1478 : decode cL_law 1478 = .ok (.iaload, 1) := dk_46 (dk_at dksL_law_57 13 rfl rfl)
theorem dL_law_1479 : decode cL_law 1479 = .ok (.invokevirtual 206, 3) := dk_182 0 206 (dk_at dksL_law_57 14 rfl rfl)
theorem dL_law_1482 : decode cL_law 1482 = .ok (.istore 7, 2) := dk_54 7 (dk_at dksL_law_57 17 rfl rfl)
theorem dL_law_1484 : decode cL_law 1484 = .ok (.aload_n 2, 1) := dk_44 (dk_at dksL_law_57 19 rfl rfl)
theorem dL_law_1485 : decode cL_law 1485 = .ok (.invokevirtual 148, 3) := dk_182 0 148 (dk_at dksL_law_57 20 rfl rfl)
theorem dL_law_1488 : decode cL_law 1488 = .ok (.iload 6, 2) := dk_21 6 (dk_at dksL_law_58 0 rfl rfl)
theorem dL_law_1490 : decode cL_law 1490 = .ok (.if_icmp .eq 5, 3) := dk_159 0 5 (dk_at dksL_law_58 2 rfl rfl)
theorem dL_law_1493 : decode cL_law 1493 = .ok (.iconst 0, 1) := dk_3 (dk_at dksL_law_58 5 rfl rfl)
theorem dL_law_1494 : decode cL_law 1494 = .ok (.ireturn, 1) := dk_172 (dk_at dksL_law_58 6 rfl rfl)
theorem dL_law_1495 : decode cL_law 1495 = .ok (.iload 6, 2) := dk_21 6 (dk_at dksL_law_58 7 rfl rfl)
theorem dL_law_1497 : decode cL_law 1497 = .ok (.ifCond .ne 15, 3) := dk_154 0 15 (dk_at dksL_law_58 9 rfl rfl)
theorem dL_law_1500 : decode cL_law 1500 = .ok (.aload_n 3, 1) := dk_45 (dk_at dksL_law_58 12 rfl rfl)
theorem dL_law_1501 : decode cL_law 1501 = .ok (.iconst 0, 1) := dk_3 (dk_at dksL_law_58 13 rfl rfl)
theorem dL_law_1502 : decode cL_law 1502 = .ok (.laload, 1) := dk_47 (dk_at dksL_law_58 14 rfl rfl)
theorem dL_law_1503 : decode cL_law 1503 = .ok (.iload 7, 2) := dk_21 7 (dk_at dksL_law_58 15 rfl rfl)
theorem dL_law_1505 : decode cL_law 1505 = .ok (.i2l, 1) := dk_133 (dk_at dksL_law_58 17 rfl rfl)
theorem dL_law_1506 : decode cL_law 1506 = .ok (.lcmp, 1) := dk_148 (dk_at dksL_law_58 18 rfl rfl)
theorem dL_law_1507 : decode cL_law 1507 = .ok (.ifCond .eq 5, 3) := dk_153 0 5 (dk_at dksL_law_58 19 rfl rfl)
theorem dL_law_1510 : decode cL_law 1510 = .ok (.iconst 0, 1) := dk_3 (dk_at dksL_law_58 22 rfl rfl)
theorem dL_law_1511 : decode cL_law 1511 = .ok (.ireturn, 1) := dk_172 (dk_at dksL_law_58 23 rfl rfl)
theorem dL_law_1512 : decode cL_law 1512 = .ok (.goto 990, 3) := dk_167 3 222 (dk_at dksL_law_59 0 rfl rfl)
theorem dL_law_1515 : decode cL_law 1515 = .ok (.aload_n 1, 1) := dk_43 (dk_at dksL_law_59 3 rfl rfl)
theorem dL_law_1516 : decode cL_law 1516 = .ok (.aload_n 0, 1) := dk_42 (dk_at dksL_law_59 4 rfl rfl)
theorem dL_law_1517 : decode cL_law 1517 = .ok (.iload 5, 2) := dk_21 5 (dk_at dksL_law_59 5 rfl rfl)
theorem dL_law_1519 : decode cL_law 1519 = .ok (.iconst 1, 1) := dk_4 (dk_at dksL_law_59 7 rfl rfl)
theorem dL_law_1520 : decode cL_law 1520 = .ok (.iadd, 1) := dk_96 (dk_at dksL_law_59 8 rfl rfl)
theorem dL_law_1521 : decode cL_law 1521 = .ok (.iaload, 1) := dk_46 (dk_at dksL_law_59 9 rfl rfl)
theorem dL_law_1522 : decode cL_law 1522 = .ok (.aload_n 3, 1) := dk_45 (dk_at dksL_law_59 10 rfl rfl)
theorem dL_law_1523 : decode cL_law 1523 = .ok (.invokestatic 207, 3) := dk_184 0 207 (dk_at dksL_law_59 11 rfl rfl)
theorem dL_law_1526 : decode cL_law 1526 = .ok (.istore 6, 2) := dk_54 6 (dk_at dksL_law_59 14 rfl rfl)
theorem dL_law_1528 : decode cL_law 1528 = .ok (.aload_n 2, 1) := dk_44 (dk_at dksL_law_59 16 rfl rfl)
theorem dL_law_1529 : decode cL_law 1529 = .ok (.aload_n 0, 1) := dk_42 (dk_at dksL_law_59 17 rfl rfl)
theorem dL_law_1530 : decode cL_law 1530 = .ok (.iload 5, 2) := dk_21 5 (dk_at dksL_law_59 18 rfl rfl)
theorem dL_law_1532 : decode cL_law 1532 = .ok (.iconst 1, 1) := dk_4 (dk_at dksL_law_59 20 rfl rfl)
theorem dL_law_1533 : decode cL_law 1533 = .ok (.iadd, 1) := dk_96 (dk_at dksL_law_59 21 rfl rfl)
theorem dL_law_1534 : decode cL_law 1534 = .ok (.iaload, 1) := dk_46 (dk_at dksL_law_59 22 rfl rfl)
theorem dL_law_1535 : decode cL_law 1535 = .ok (.invokevirtual 209, 3) := dk_182 0 209 (dk_at dksL_law_60 0 rfl rfl)
theorem dL_law_1538 : decode cL_law 1538 = .ok (.lstore 7, 2) := dk_55 7 (dk_at dksL_law_60 3 rfl rfl)
theorem dL_law_1540 : decode cL_law 1540 = .ok (.aload_n 2, 1) := dk_44 (dk_at dksL_law_60 5 rfl rfl)
theorem dL_law_1541 : decode cL_law 1541 = .ok (.invokevirtual 148, 3) := dk_182 0 148 (dk_at dksL_law_60 6 rfl rfl)
theorem dL_law_1544 : decode cL_law 1544 = .ok (.iload 6, 2) := dk_21 6 (dk_at dksL_law_60 9 rfl rfl)
theorem dL_law_1546 : decode cL_law 1546 = .ok (.if_icmp .eq 5, 3) := dk_159 0 5 (dk_at dksL_law_60 11 rfl rfl)
theorem dL_law_1549 : decode cL_law 1549 = .ok (.iconst 0, 1) := dk_3 (dk_at dksL_law_60 14 rfl rfl)
theorem dL_law_1550 : decode cL_law 1550 = .ok (.ireturn, 1) := dk_172 (dk_at dksL_law_60 15 rfl rfl)
theorem dL_law_1551 : decode cL_law 1551 = .ok (.iload 6, 2) := dk_21 6 (dk_at dksL_law_60 16 rfl rfl)
theorem dL_law_1553 : decode cL_law 1553 = .ok (.ifCond .ne 14, 3) := dk_154 0 14 (dk_at dksL_law_60 18 rfl rfl)
theorem dL_law_1556 : decode cL_law 1556 = .ok (.aload_n 3, 1) := dk_45 (dk_at dksL_law_60 21 rfl rfl)
theorem dL_law_1557 : decode cL_law 1557 = .ok (.iconst 0, 1) := dk_3 (dk_at dksL_law_60 22 rfl rfl)
theorem dL_law_1558 : decode cL_law 1558 = .ok (.laload, 1) := dk_47 (dk_at dksL_law_60 23 rfl rfl)
theorem dL_law_1559 : decode cL_law 1559 = .ok (.lload 7, 2) := dk_22 7 (dk_at dksL_law_61 0 rfl rfl)
theorem dL_law_1561 : decode cL_law 1561 = .ok (.lcmp, 1) := dk_148 (dk_at dksL_law_61 2 rfl rfl)
theorem dL_law_1562 : decode cL_law 1562 = .ok (.ifCond .eq 5, 3) := dk_153 0 5 (dk_at dksL_law_61 3 rfl rfl)
theorem dL_law_1565 : decode cL_law 1565 = .ok (.iconst 0, 1) := dk_3 (dk_at dksL_law_61 6 rfl rfl)
theorem dL_law_1566 : decode cL_law 1566 = .ok (.ireturn, 1) := dk_172 (dk_at dksL_law_61 7 rfl rfl)
theorem dL_law_1567 : decode cL_law 1567 = .ok (.goto 935, 3) := dk_167 3 167 (dk_at dksL_law_61 8 rfl rfl)
theorem dL_law_1570 : decode cL_law 1570 = .ok (.aload_n 1, 1) := dk_43 (dk_at dksL_law_61 11 rfl rfl)
theorem dL_law_1571 : decode cL_law 1571 = .ok (.aload_n 0, 1) := dk_42 (dk_at dksL_law_61 12 rfl rfl)
theorem dL_law_1572 : decode cL_law 1572 = .ok (.iload 5, 2) := dk_21 5 (dk_at dksL_law_61 13 rfl rfl)
theorem dL_law_1574 : decode cL_law 1574 = .ok (.iconst 1, 1) := dk_4 (dk_at dksL_law_61 15 rfl rfl)
theorem dL_law_1575 : decode cL_law 1575 = .ok (.iadd, 1) := dk_96 (dk_at dksL_law_61 16 rfl rfl)
theorem dL_law_1576 : decode cL_law 1576 = .ok (.iaload, 1) := dk_46 (dk_at dksL_law_61 17 rfl rfl)
theorem dL_law_1577 : decode cL_law 1577 = .ok (.aload_n 0, 1) := dk_42 (dk_at dksL_law_61 18 rfl rfl)
theorem dL_law_1578 : decode cL_law 1578 = .ok (.iload 5, 2) := dk_21 5 (dk_at dksL_law_61 19 rfl rfl)
theorem dL_law_1580 : decode cL_law 1580 = .ok (.iconst 2, 1) := dk_5 (dk_at dksL_law_61 21 rfl rfl)
theorem dL_law_1581 : decode cL_law 1581 = .ok (.iadd, 1) := dk_96 (dk_at dksL_law_61 22 rfl rfl)
theorem dL_law_1582 : decode cL_law 1582 = .ok (.iaload, 1) := dk_46 (dk_at dksL_law_61 23 rfl rfl)
theorem dL_law_1583 : decode cL_law 1583 = .ok (.aload_n 3, 1) := dk_45 (dk_at dksL_law_62 0 rfl rfl)
theorem dL_law_1584 : decode cL_law 1584 = .ok (.invokestatic 210, 3) := dk_184 0 210 (dk_at dksL_law_62 1 rfl rfl)
theorem dL_law_1587 : decode cL_law 1587 = .ok (.istore 6, 2) := dk_54 6 (dk_at dksL_law_62 4 rfl rfl)
theorem dL_law_1589 : decode cL_law 1589 = .ok (.aload_n 2, 1) := dk_44 (dk_at dksL_law_62 6 rfl rfl)
theorem dL_law_1590 : decode cL_law 1590 = .ok (.aload_n 0, 1) := dk_42 (dk_at dksL_law_62 7 rfl rfl)
theorem dL_law_1591 : decode cL_law 1591 = .ok (.iload 5, 2) := dk_21 5 (dk_at dksL_law_62 8 rfl rfl)
theorem dL_law_1593 : decode cL_law 1593 = .ok (.iconst 1, 1) := dk_4 (dk_at dksL_law_62 10 rfl rfl)
theorem dL_law_1594 : decode cL_law 1594 = .ok (.iadd, 1) := dk_96 (dk_at dksL_law_62 11 rfl rfl)
theorem dL_law_1595 : decode cL_law 1595 = .ok (.iaload, 1) := dk_46 (dk_at dksL_law_62 12 rfl rfl)
theorem dL_law_1596 : decode cL_law 1596 = .ok (.aload_n 0, 1) := dk_42 (dk_at dksL_law_62 13 rfl rfl)
theorem dL_law_1597 : decode cL_law 1597 = .ok (.iload 5, 2) := dk_21 5 (dk_at dksL_law_62 14 rfl rfl)
theorem dL_law_1599 : decode cL_law 1599 = .ok (.iconst 2, 1) := dk_5 (dk_at dksL_law_62 16 rfl rfl)
theorem dL_law_1600 : decode cL_law 1600 = .ok (.iadd, 1) := dk_96 (dk_at dksL_law_62 17 rfl rfl)
theorem dL_law_1601 : decode cL_law 1601 = .ok (.iaload, 1) := dk_46 (dk_at dksL_law_62 18 rfl rfl)
theorem dL_law_1602 : decode cL_law 1602 = .ok (.invokevirtual 212, 3) := dk_182 0 212 (dk_at dksL_law_62 19 rfl rfl)
theorem dL_law_1605 : decode cL_law 1605 = .ok (.istore 7, 2) := dk_54 7 (dk_at dksL_law_62 22 rfl rfl)
theorem dL_law_1607 : decode cL_law 1607 = .ok (.aload_n 2, 1) := dk_44 (dk_at dksL_law_63 0 rfl rfl)
theorem dL_law_1608 : decode cL_law 1608 = .ok (.invokevirtual 148, 3) := dk_182 0 148 (dk_at dksL_law_63 1 rfl rfl)
theorem dL_law_1611 : decode cL_law 1611 = .ok (.iload 6, 2) := dk_21 6 (dk_at dksL_law_63 4 rfl rfl)
theorem dL_law_1613 : decode cL_law 1613 = .ok (.if_icmp .eq 5, 3) := dk_159 0 5 (dk_at dksL_law_63 6 rfl rfl)
theorem dL_law_1616 : decode cL_law 1616 = .ok (.iconst 0, 1) := dk_3 (dk_at dksL_law_63 9 rfl rfl)
theorem dL_law_1617 : decode cL_law 1617 = .ok (.ireturn, 1) := dk_172 (dk_at dksL_law_63 10 rfl rfl)
theorem dL_law_1618 : decode cL_law 1618 = .ok (.iload 6, 2) := dk_21 6 (dk_at dksL_law_63 11 rfl rfl)
theorem dL_law_1620 : decode cL_law 1620 = .ok (.ifCond .ne 15, 3) := dk_154 0 15 (dk_at dksL_law_63 13 rfl rfl)
theorem dL_law_1623 : decode cL_law 1623 = .ok (.aload_n 3, 1) := dk_45 (dk_at dksL_law_63 16 rfl rfl)
theorem dL_law_1624 : decode cL_law 1624 = .ok (.iconst 0, 1) := dk_3 (dk_at dksL_law_63 17 rfl rfl)
theorem dL_law_1625 : decode cL_law 1625 = .ok (.laload, 1) := dk_47 (dk_at dksL_law_63 18 rfl rfl)
theorem dL_law_1626 : decode cL_law 1626 = .ok (.iload 7, 2) := dk_21 7 (dk_at dksL_law_63 19 rfl rfl)
theorem dL_law_1628 : decode cL_law 1628 = .ok (.i2l, 1) := dk_133 (dk_at dksL_law_63 21 rfl rfl)
theorem dL_law_1629 : decode cL_law 1629 = .ok (.lcmp, 1) := dk_148 (dk_at dksL_law_63 22 rfl rfl)
theorem dL_law_1630 : decode cL_law 1630 = .ok (.ifCond .eq 5, 3) := dk_153 0 5 (dk_at dksL_law_64 0 rfl rfl)
theorem dL_law_1633 : decode cL_law 1633 = .ok (.iconst 0, 1) := dk_3 (dk_at dksL_law_64 3 rfl rfl)
theorem dL_law_1634 : decode cL_law 1634 = .ok (.ireturn, 1) := dk_172 (dk_at dksL_law_64 4 rfl rfl)
theorem dL_law_1635 : decode cL_law 1635 = .ok (.goto 867, 3) := dk_167 3 99 (dk_at dksL_law_64 5 rfl rfl)
theorem dL_law_1638 : decode cL_law 1638 = .ok (.aload_n 1, 1) := dk_43 (dk_at dksL_law_64 8 rfl rfl)
theorem dL_law_1639 : decode cL_law 1639 = .ok (.aload_n 0, 1) := dk_42 (dk_at dksL_law_64 9 rfl rfl)
theorem dL_law_1640 : decode cL_law 1640 = .ok (.iload 5, 2) := dk_21 5 (dk_at dksL_law_64 10 rfl rfl)
theorem dL_law_1642 : decode cL_law 1642 = .ok (.iconst 1, 1) := dk_4 (dk_at dksL_law_64 12 rfl rfl)
theorem dL_law_1643 : decode cL_law 1643 = .ok (.iadd, 1) := dk_96 (dk_at dksL_law_64 13 rfl rfl)
theorem dL_law_1644 : decode cL_law 1644 = .ok (.iaload, 1) := dk_46 (dk_at dksL_law_64 14 rfl rfl)
theorem dL_law_1645 : decode cL_law 1645 = .ok (.aload_n 0, 1) := dk_42 (dk_at dksL_law_64 15 rfl rfl)
theorem dL_law_1646 : decode cL_law 1646 = .ok (.iload 5, 2) := dk_21 5 (dk_at dksL_law_64 16 rfl rfl)
theorem dL_law_1648 : decode cL_law 1648 = .ok (.iconst 2, 1) := dk_5 (dk_at dksL_law_64 18 rfl rfl)
theorem dL_law_1649 : decode cL_law 1649 = .ok (.iadd, 1) := dk_96 (dk_at dksL_law_64 19 rfl rfl)
theorem dL_law_1650 : decode cL_law 1650 = .ok (.iaload, 1) := dk_46 (dk_at dksL_law_64 20 rfl rfl)
theorem dL_law_1651 : decode cL_law 1651 = .ok (.aload_n 3, 1) := dk_45 (dk_at dksL_law_64 21 rfl rfl)
theorem dL_law_1652 : decode cL_law 1652 = .ok (.invokestatic 213, 3) := dk_184 0 213 (dk_at dksL_law_65 0 rfl rfl)
theorem dL_law_1655 : decode cL_law 1655 = .ok (.istore 6, 2) := dk_54 6 (dk_at dksL_law_65 3 rfl rfl)
theorem dL_law_1657 : decode cL_law 1657 = .ok (.aload_n 2, 1) := dk_44 (dk_at dksL_law_65 5 rfl rfl)
theorem dL_law_1658 : decode cL_law 1658 = .ok (.aload_n 0, 1) := dk_42 (dk_at dksL_law_65 6 rfl rfl)
theorem dL_law_1659 : decode cL_law 1659 = .ok (.iload 5, 2) := dk_21 5 (dk_at dksL_law_65 7 rfl rfl)
theorem dL_law_1661 : decode cL_law 1661 = .ok (.iconst 1, 1) := dk_4 (dk_at dksL_law_65 9 rfl rfl)
theorem dL_law_1662 : decode cL_law 1662 = .ok (.iadd, 1) := dk_96 (dk_at dksL_law_65 10 rfl rfl)
theorem dL_law_1663 : decode cL_law 1663 = .ok (.iaload, 1) := dk_46 (dk_at dksL_law_65 11 rfl rfl)
theorem dL_law_1664 : decode cL_law 1664 = .ok (.aload_n 0, 1) := dk_42 (dk_at dksL_law_65 12 rfl rfl)
theorem dL_law_1665 : decode cL_law 1665 = .ok (.iload 5, 2) := dk_21 5 (dk_at dksL_law_65 13 rfl rfl)
theorem dL_law_1667 : decode cL_law 1667 = .ok (.iconst 2, 1) := dk_5 (dk_at dksL_law_65 15 rfl rfl)
theorem dL_law_1668 : decode cL_law 1668 = .ok (.iadd, 1) := dk_96 (dk_at dksL_law_65 16 rfl rfl)
theorem dL_law_1669 : decode cL_law 1669 = .ok (.iaload, 1) := dk_46 (dk_at dksL_law_65 17 rfl rfl)
theorem dL_law_1670 : decode cL_law 1670 = .ok (.invokevirtual 215, 3) := dk_182 0 215 (dk_at dksL_law_65 18 rfl rfl)
theorem dL_law_1673 : decode cL_law 1673 = .ok (.istore 7, 2) := dk_54 7 (dk_at dksL_law_65 21 rfl rfl)
theorem dL_law_1675 : decode cL_law 1675 = .ok (.aload_n 2, 1) := dk_44 (dk_at dksL_law_65 23 rfl rfl)
theorem dL_law_1676 : decode cL_law 1676 = .ok (.invokevirtual 148, 3) := dk_182 0 148 (dk_at dksL_law_66 0 rfl rfl)
theorem dL_law_1679 : decode cL_law 1679 = .ok (.iload 6, 2) := dk_21 6 (dk_at dksL_law_66 3 rfl rfl)
theorem dL_law_1681 : decode cL_law 1681 = .ok (.if_icmp .eq 5, 3) := dk_159 0 5 (dk_at dksL_law_66 5 rfl rfl)
theorem dL_law_1684 : decode cL_law 1684 = .ok (.iconst 0, 1) := dk_3 (dk_at dksL_law_66 8 rfl rfl)
theorem dL_law_1685 : decode cL_law 1685 = .ok (.ireturn, 1) := dk_172 (dk_at dksL_law_66 9 rfl rfl)
theorem dL_law_1686 : decode cL_law 1686 = .ok (.iload 6, 2) := dk_21 6 (dk_at dksL_law_66 10 rfl rfl)
theorem dL_law_1688 : decode cL_law 1688 = .ok (.ifCond .ne 15, 3) := dk_154 0 15 (dk_at dksL_law_66 12 rfl rfl)
theorem dL_law_1691 : decode cL_law 1691 = .ok (.aload_n 3, 1) := dk_45 (dk_at dksL_law_66 15 rfl rfl)
theorem dL_law_1692 : decode cL_law 1692 = .ok (.iconst 0, 1) := dk_3 (dk_at dksL_law_66 16 rfl rfl)
theorem dL_law_1693 : decode cL_law 1693 = .ok (.laload, 1) := dk_47 (dk_at dksL_law_66 17 rfl rfl)
theorem dL_law_1694 : decode cL_law 1694 = .ok (.iload 7, 2) := dk_21 7 (dk_at dksL_law_66 18 rfl rfl)
theorem dL_law_1696 : decode cL_law 1696 = .ok (.i2l, 1) := dk_133 (dk_at dksL_law_66 20 rfl rfl)
theorem dL_law_1697 : decode cL_law 1697 = .ok (.lcmp, 1) := dk_148 (dk_at dksL_law_66 21 rfl rfl)
theorem dL_law_1698 : decode cL_law 1698 = .ok (.ifCond .eq 5, 3) := dk_153 0 5 (dk_at dksL_law_67 0 rfl rfl)
theorem dL_law_1701 : decode cL_law 1701 = .ok (.iconst 0, 1) := dk_3 (dk_at dksL_law_67 3 rfl rfl)
theorem dL_law_1702 : decode cL_law 1702 = .ok (.ireturn, 1) := dk_172 (dk_at dksL_law_67 4 rfl rfl)
theorem dL_law_1703 : decode cL_law 1703 = .ok (.goto 799, 3) := dk_167 3 31 (dk_at dksL_law_67 5 rfl rfl)
theorem dL_law_1706 : decode cL_law 1706 = .ok (.aload_n 1, 1) := dk_43 (dk_at dksL_law_67 8 rfl rfl)
theorem dL_law_1707 : decode cL_law 1707 = .ok (.aload_n 0, 1) := dk_42 (dk_at dksL_law_67 9 rfl rfl)
theorem dL_law_1708 : decode cL_law 1708 = .ok (.iload 5, 2) := dk_21 5 (dk_at dksL_law_67 10 rfl rfl)
theorem dL_law_1710 : decode cL_law 1710 = .ok (.iconst 1, 1) := dk_4 (dk_at dksL_law_67 12 rfl rfl)
theorem dL_law_1711 : decode cL_law 1711 = .ok (.iadd, 1) := dk_96 (dk_at dksL_law_67 13 rfl rfl)
theorem dL_law_1712 : decode cL_law 1712 = .ok (.iaload, 1) := dk_46 (dk_at dksL_law_67 14 rfl rfl)
theorem dL_law_1713 : decode cL_law 1713 = .ok (.aload_n 0, 1) := dk_42 (dk_at dksL_law_67 15 rfl rfl)
theorem dL_law_1714 : decode cL_law 1714 = .ok (.iload 5, 2) := dk_21 5 (dk_at dksL_law_67 16 rfl rfl)
theorem dL_law_1716 : decode cL_law 1716 = .ok (.iconst 2, 1) := dk_5 (dk_at dksL_law_67 18 rfl rfl)
theorem dL_law_1717 : decode cL_law 1717 = .ok (.iadd, 1) := dk_96 (dk_at dksL_law_67 19 rfl rfl)
theorem dL_law_1718 : decode cL_law 1718 = .ok (.iaload, 1) := dk_46 (dk_at dksL_law_67 20 rfl rfl)
theorem dL_law_1719 : decode cL_law 1719 = .ok (.aload_n 3, 1) := dk_45 (dk_at dksL_law_67 21 rfl rfl)
theorem dL_law_1720 : decode cL_law 1720 = .ok (.invokestatic 216, 3) := dk_184 0 216 (dk_at dksL_law_68 0 rfl rfl)
theorem dL_law_1723 : decode cL_law 1723 = .ok (.istore 6, 2) := dk_54 6 (dk_at dksL_law_68 3 rfl rfl)
theorem dL_law_1725 : decode cL_law 1725 = .ok (.aload_n 2, 1) := dk_44 (dk_at dksL_law_68 5 rfl rfl)
theorem dL_law_1726 : decode cL_law 1726 = .ok (.aload_n 0, 1) := dk_42 (dk_at dksL_law_68 6 rfl rfl)
theorem dL_law_1727 : decode cL_law 1727 = .ok (.iload 5, 2) := dk_21 5 (dk_at dksL_law_68 7 rfl rfl)
theorem dL_law_1729 : decode cL_law 1729 = .ok (.iconst 1, 1) := dk_4 (dk_at dksL_law_68 9 rfl rfl)
theorem dL_law_1730 : decode cL_law 1730 = .ok (.iadd, 1) := dk_96 (dk_at dksL_law_68 10 rfl rfl)
theorem dL_law_1731 : decode cL_law 1731 = .ok (.iaload, 1) := dk_46 (dk_at dksL_law_68 11 rfl rfl)
theorem dL_law_1732 : decode cL_law 1732 = .ok (.aload_n 0, 1) := dk_42 (dk_at dksL_law_68 12 rfl rfl)
theorem dL_law_1733 : decode cL_law 1733 = .ok (.iload 5, 2) := dk_21 5 (dk_at dksL_law_68 13 rfl rfl)
theorem dL_law_1735 : decode cL_law 1735 = .ok (.iconst 2, 1) := dk_5 (dk_at dksL_law_68 15 rfl rfl)
theorem dL_law_1736 : decode cL_law 1736 = .ok (.iadd, 1) := dk_96 (dk_at dksL_law_68 16 rfl rfl)
theorem dL_law_1737 : decode cL_law 1737 = .ok (.iaload, 1) := dk_46 (dk_at dksL_law_68 17 rfl rfl)
theorem dL_law_1738 : decode cL_law 1738 = .ok (.invokevirtual 218, 3) := dk_182 0 218 (dk_at dksL_law_68 18 rfl rfl)
theorem dL_law_1741 : decode cL_law 1741 = .ok (.istore 7, 2) := dk_54 7 (dk_at dksL_law_68 21 rfl rfl)
theorem dL_law_1743 : decode cL_law 1743 = .ok (.aload_n 2, 1) := dk_44 (dk_at dksL_law_68 23 rfl rfl)
theorem dL_law_1744 : decode cL_law 1744 = .ok (.invokevirtual 148, 3) := dk_182 0 148 (dk_at dksL_law_69 0 rfl rfl)
theorem dL_law_1747 : decode cL_law 1747 = .ok (.iload 6, 2) := dk_21 6 (dk_at dksL_law_69 3 rfl rfl)
theorem dL_law_1749 : decode cL_law 1749 = .ok (.if_icmp .eq 5, 3) := dk_159 0 5 (dk_at dksL_law_69 5 rfl rfl)
theorem dL_law_1752 : decode cL_law 1752 = .ok (.iconst 0, 1) := dk_3 (dk_at dksL_law_69 8 rfl rfl)
theorem dL_law_1753 : decode cL_law 1753 = .ok (.ireturn, 1) := dk_172 (dk_at dksL_law_69 9 rfl rfl)
theorem dL_law_1754 : decode cL_law 1754 = .ok (.iload 6, 2) := dk_21 6 (dk_at dksL_law_69 10 rfl rfl)
theorem dL_law_1756 : decode cL_law 1756 = .ok (.ifCond .ne 15, 3) := dk_154 0 15 (dk_at dksL_law_69 12 rfl rfl)
theorem dL_law_1759 : decode cL_law 1759 = .ok (.aload_n 3, 1) := dk_45 (dk_at dksL_law_69 15 rfl rfl)
theorem dL_law_1760 : decode cL_law 1760 = .ok (.iconst 0, 1) := dk_3 (dk_at dksL_law_69 16 rfl rfl)
theorem dL_law_1761 : decode cL_law 1761 = .ok (.laload, 1) := dk_47 (dk_at dksL_law_69 17 rfl rfl)
theorem dL_law_1762 : decode cL_law 1762 = .ok (.iload 7, 2) := dk_21 7 (dk_at dksL_law_69 18 rfl rfl)
theorem dL_law_1764 : decode cL_law 1764 = .ok (.i2l, 1) := dk_133 (dk_at dksL_law_69 20 rfl rfl)
theorem dL_law_1765 : decode cL_law 1765 = .ok (.lcmp, 1) := dk_148 (dk_at dksL_law_69 21 rfl rfl)
theorem dL_law_1766 : decode cL_law 1766 = .ok (.ifCond .eq 5, 3) := dk_153 0 5 (dk_at dksL_law_70 0 rfl rfl)
theorem dL_law_1769 : decode cL_law 1769 = .ok (.iconst 0, 1) := dk_3 (dk_at dksL_law_70 3 rfl rfl)
theorem dL_law_1770 : decode cL_law 1770 = .ok (.ireturn, 1) := dk_172 (dk_at dksL_law_70 4 rfl rfl)
theorem dL_law_1771 : decode cL_law 1771 = .ok (.goto 731, 3) := dk_167 2 219 (dk_at dksL_law_70 5 rfl rfl)
theorem dL_law_1774 : decode cL_law 1774 = .ok (.aload_n 1, 1) := dk_43 (dk_at dksL_law_70 8 rfl rfl)
theorem dL_law_1775 : decode cL_law 1775 = .ok (.aload_n 0, 1) := dk_42 (dk_at dksL_law_70 9 rfl rfl)
theorem dL_law_1776 : decode cL_law 1776 = .ok (.iload 5, 2) := dk_21 5 (dk_at dksL_law_70 10 rfl rfl)
theorem dL_law_1778 : decode cL_law 1778 = .ok (.iconst 1, 1) := dk_4 (dk_at dksL_law_70 12 rfl rfl)
theorem dL_law_1779 : decode cL_law 1779 = .ok (.iadd, 1) := dk_96 (dk_at dksL_law_70 13 rfl rfl)
theorem dL_law_1780 : decode cL_law 1780 = .ok (.iaload, 1) := dk_46 (dk_at dksL_law_70 14 rfl rfl)
theorem dL_law_1781 : decode cL_law 1781 = .ok (.aload_n 0, 1) := dk_42 (dk_at dksL_law_70 15 rfl rfl)
theorem dL_law_1782 : decode cL_law 1782 = .ok (.iload 5, 2) := dk_21 5 (dk_at dksL_law_70 16 rfl rfl)
theorem dL_law_1784 : decode cL_law 1784 = .ok (.iconst 2, 1) := dk_5 (dk_at dksL_law_70 18 rfl rfl)
theorem dL_law_1785 : decode cL_law 1785 = .ok (.iadd, 1) := dk_96 (dk_at dksL_law_70 19 rfl rfl)
theorem dL_law_1786 : decode cL_law 1786 = .ok (.iaload, 1) := dk_46 (dk_at dksL_law_70 20 rfl rfl)
theorem dL_law_1787 : decode cL_law 1787 = .ok (.aload_n 3, 1) := dk_45 (dk_at dksL_law_70 21 rfl rfl)
theorem dL_law_1788 : decode cL_law 1788 = .ok (.invokestatic 219, 3) := dk_184 0 219 (dk_at dksL_law_71 0 rfl rfl)
theorem dL_law_1791 : decode cL_law 1791 = .ok (.istore 6, 2) := dk_54 6 (dk_at dksL_law_71 3 rfl rfl)
theorem dL_law_1793 : decode cL_law 1793 = .ok (.aload_n 2, 1) := dk_44 (dk_at dksL_law_71 5 rfl rfl)
theorem dL_law_1794 : decode cL_law 1794 = .ok (.aload_n 0, 1) := dk_42 (dk_at dksL_law_71 6 rfl rfl)
theorem dL_law_1795 : decode cL_law 1795 = .ok (.iload 5, 2) := dk_21 5 (dk_at dksL_law_71 7 rfl rfl)
theorem dL_law_1797 : decode cL_law 1797 = .ok (.iconst 1, 1) := dk_4 (dk_at dksL_law_71 9 rfl rfl)
theorem dL_law_1798 : decode cL_law 1798 = .ok (.iadd, 1) := dk_96 (dk_at dksL_law_71 10 rfl rfl)
theorem dL_law_1799 : decode cL_law 1799 = .ok (.iaload, 1) := dk_46 (dk_at dksL_law_71 11 rfl rfl)
theorem dL_law_1800 : decode cL_law 1800 = .ok (.aload_n 0, 1) := dk_42 (dk_at dksL_law_71 12 rfl rfl)
theorem dL_law_1801 : decode cL_law 1801 = .ok (.iload 5, 2) := dk_21 5 (dk_at dksL_law_71 13 rfl rfl)
theorem dL_law_1803 : decode cL_law 1803 = .ok (.iconst 2, 1) := dk_5 (dk_at dksL_law_71 15 rfl rfl)
theorem dL_law_1804 : decode cL_law 1804 = .ok (.iadd, 1) := dk_96 (dk_at dksL_law_71 16 rfl rfl)
theorem dL_law_1805 : decode cL_law 1805 = .ok (.iaload, 1) := dk_46 (dk_at dksL_law_71 17 rfl rfl)
theorem dL_law_1806 : decode cL_law 1806 = .ok (.invokevirtual 221, 3) := dk_182 0 221 (dk_at dksL_law_71 18 rfl rfl)
theorem dL_law_1809 : decode cL_law 1809 = .ok (.istore 7, 2) := dk_54 7 (dk_at dksL_law_71 21 rfl rfl)
theorem dL_law_1811 : decode cL_law 1811 = .ok (.aload_n 2, 1) := dk_44 (dk_at dksL_law_71 23 rfl rfl)
theorem dL_law_1812 : decode cL_law 1812 = .ok (.invokevirtual 148, 3) := dk_182 0 148 (dk_at dksL_law_72 0 rfl rfl)
theorem dL_law_1815 : decode cL_law 1815 = .ok (.iload 6, 2) := dk_21 6 (dk_at dksL_law_72 3 rfl rfl)
theorem dL_law_1817 : decode cL_law 1817 = .ok (.if_icmp .eq 5, 3) := dk_159 0 5 (dk_at dksL_law_72 5 rfl rfl)
theorem dL_law_1820 : decode cL_law 1820 = .ok (.iconst 0, 1) := dk_3 (dk_at dksL_law_72 8 rfl rfl)
theorem dL_law_1821 : decode cL_law 1821 = .ok (.ireturn, 1) := dk_172 (dk_at dksL_law_72 9 rfl rfl)
theorem dL_law_1822 : decode cL_law 1822 = .ok (.iload 6, 2) := dk_21 6 (dk_at dksL_law_72 10 rfl rfl)
theorem dL_law_1824 : decode cL_law 1824 = .ok (.ifCond .ne 15, 3) := dk_154 0 15 (dk_at dksL_law_72 12 rfl rfl)
theorem dL_law_1827 : decode cL_law 1827 = .ok (.aload_n 3, 1) := dk_45 (dk_at dksL_law_72 15 rfl rfl)
theorem dL_law_1828 : decode cL_law 1828 = .ok (.iconst 0, 1) := dk_3 (dk_at dksL_law_72 16 rfl rfl)
theorem dL_law_1829 : decode cL_law 1829 = .ok (.laload, 1) := dk_47 (dk_at dksL_law_72 17 rfl rfl)
theorem dL_law_1830 : decode cL_law 1830 = .ok (.iload 7, 2) := dk_21 7 (dk_at dksL_law_72 18 rfl rfl)
theorem dL_law_1832 : decode cL_law 1832 = .ok (.i2l, 1) := dk_133 (dk_at dksL_law_72 20 rfl rfl)
theorem dL_law_1833 : decode cL_law 1833 = .ok (.lcmp, 1) := dk_148 (dk_at dksL_law_72 21 rfl rfl)
theorem dL_law_1834 : decode cL_law 1834 = .ok (.ifCond .eq 5, 3) := dk_153 0 5 (dk_at dksL_law_73 0 rfl rfl)
theorem dL_law_1837 : decode cL_law 1837 = .ok (.iconst 0, 1) := dk_3 (dk_at dksL_law_73 3 rfl rfl)
theorem dL_law_1838 : decode cL_law 1838 = .ok (.ireturn, 1) := dk_172 (dk_at dksL_law_73 4 rfl rfl)
theorem dL_law_1839 : decode cL_law 1839 = .ok (.goto 663, 3) := dk_167 2 151 (dk_at dksL_law_73 5 rfl rfl)
theorem dL_law_1842 : decode cL_law 1842 = .ok (.aload_n 1, 1) := dk_43 (dk_at dksL_law_73 8 rfl rfl)
theorem dL_law_1843 : decode cL_law 1843 = .ok (.aload_n 0, 1) := dk_42 (dk_at dksL_law_73 9 rfl rfl)
theorem dL_law_1844 : decode cL_law 1844 = .ok (.iload 5, 2) := dk_21 5 (dk_at dksL_law_73 10 rfl rfl)
theorem dL_law_1846 : decode cL_law 1846 = .ok (.iconst 1, 1) := dk_4 (dk_at dksL_law_73 12 rfl rfl)
theorem dL_law_1847 : decode cL_law 1847 = .ok (.iadd, 1) := dk_96 (dk_at dksL_law_73 13 rfl rfl)
theorem dL_law_1848 : decode cL_law 1848 = .ok (.iaload, 1) := dk_46 (dk_at dksL_law_73 14 rfl rfl)
theorem dL_law_1849 : decode cL_law 1849 = .ok (.aload 4, 2) := dk_25 4 (dk_at dksL_law_73 15 rfl rfl)
theorem dL_law_1851 : decode cL_law 1851 = .ok (.invokestatic 222, 3) := dk_184 0 222 (dk_at dksL_law_73 17 rfl rfl)
theorem dL_law_1854 : decode cL_law 1854 = .ok (.istore 6, 2) := dk_54 6 (dk_at dksL_law_73 20 rfl rfl)
theorem dL_law_1856 : decode cL_law 1856 = .ok (.aload_n 2, 1) := dk_44 (dk_at dksL_law_73 22 rfl rfl)
theorem dL_law_1857 : decode cL_law 1857 = .ok (.aload_n 0, 1) := dk_42 (dk_at dksL_law_73 23 rfl rfl)
theorem dL_law_1858 : decode cL_law 1858 = .ok (.iload 5, 2) := dk_21 5 (dk_at dksL_law_74 0 rfl rfl)
theorem dL_law_1860 : decode cL_law 1860 = .ok (.iconst 1, 1) := dk_4 (dk_at dksL_law_74 2 rfl rfl)
theorem dL_law_1861 : decode cL_law 1861 = .ok (.iadd, 1) := dk_96 (dk_at dksL_law_74 3 rfl rfl)
theorem dL_law_1862 : decode cL_law 1862 = .ok (.iaload, 1) := dk_46 (dk_at dksL_law_74 4 rfl rfl)
theorem dL_law_1863 : decode cL_law 1863 = .ok (.invokevirtual 225, 3) := dk_182 0 225 (dk_at dksL_law_74 5 rfl rfl)
theorem dL_law_1866 : decode cL_law 1866 = .ok (.dstore 7, 2) := dk_57 7 (dk_at dksL_law_74 8 rfl rfl)
theorem dL_law_1868 : decode cL_law 1868 = .ok (.aload_n 2, 1) := dk_44 (dk_at dksL_law_74 10 rfl rfl)
theorem dL_law_1869 : decode cL_law 1869 = .ok (.invokevirtual 148, 3) := dk_182 0 148 (dk_at dksL_law_74 11 rfl rfl)
theorem dL_law_1872 : decode cL_law 1872 = .ok (.iload 6, 2) := dk_21 6 (dk_at dksL_law_74 14 rfl rfl)
theorem dL_law_1874 : decode cL_law 1874 = .ok (.if_icmp .eq 5, 3) := dk_159 0 5 (dk_at dksL_law_74 16 rfl rfl)
theorem dL_law_1877 : decode cL_law 1877 = .ok (.iconst 0, 1) := dk_3 (dk_at dksL_law_74 19 rfl rfl)
theorem dL_law_1878 : decode cL_law 1878 = .ok (.ireturn, 1) := dk_172 (dk_at dksL_law_74 20 rfl rfl)
theorem dL_law_1879 : decode cL_law 1879 = .ok (.iload 6, 2) := dk_21 6 (dk_at dksL_law_74 21 rfl rfl)
theorem dL_law_1881 : decode cL_law 1881 = .ok (.ifCond .ne 35, 3) := dk_154 0 35 (dk_at dksL_law_75 0 rfl rfl)
theorem dL_law_1884 : decode cL_law 1884 = .ok (.aload 4, 2) := dk_25 4 (dk_at dksL_law_75 3 rfl rfl)
theorem dL_law_1886 : decode cL_law 1886 = .ok (.iconst 0, 1) := dk_3 (dk_at dksL_law_75 5 rfl rfl)
theorem dL_law_1887 : decode cL_law 1887 = .ok (.daload, 1) := dk_49 (dk_at dksL_law_75 6 rfl rfl)
theorem dL_law_1888 : decode cL_law 1888 = .ok (.dload 7, 2) := dk_24 7 (dk_at dksL_law_75 7 rfl rfl)
theorem dL_law_1890 : decode cL_law 1890 = .ok (.dcmp .l, 1) := dk_151 (dk_at dksL_law_75 9 rfl rfl)
theorem dL_law_1891 : decode cL_law 1891 = .ok (.ifCond .eq 25, 3) := dk_153 0 25 (dk_at dksL_law_75 10 rfl rfl)
theorem dL_law_1894 : decode cL_law 1894 = .ok (.aload 4, 2) := dk_25 4 (dk_at dksL_law_75 13 rfl rfl)
theorem dL_law_1896 : decode cL_law 1896 = .ok (.iconst 0, 1) := dk_3 (dk_at dksL_law_75 15 rfl rfl)
theorem dL_law_1897 : decode cL_law 1897 = .ok (.daload, 1) := dk_49 (dk_at dksL_law_75 16 rfl rfl)
theorem dL_law_1898 : decode cL_law 1898 = .ok (.aload 4, 2) := dk_25 4 (dk_at dksL_law_75 17 rfl rfl)
theorem dL_law_1900 : decode cL_law 1900 = .ok (.iconst 0, 1) := dk_3 (dk_at dksL_law_75 19 rfl rfl)
theorem dL_law_1901 : decode cL_law 1901 = .ok (.daload, 1) := dk_49 (dk_at dksL_law_75 20 rfl rfl)
theorem dL_law_1902 : decode cL_law 1902 = .ok (.dcmp .l, 1) := dk_151 (dk_at dksL_law_75 21 rfl rfl)
theorem dL_law_1903 : decode cL_law 1903 = .ok (.ifCond .eq 11, 3) := dk_153 0 11 (dk_at dksL_law_76 0 rfl rfl)
theorem dL_law_1906 : decode cL_law 1906 = .ok (.dload 7, 2) := dk_24 7 (dk_at dksL_law_76 3 rfl rfl)
theorem dL_law_1908 : decode cL_law 1908 = .ok (.dload 7, 2) := dk_24 7 (dk_at dksL_law_76 5 rfl rfl)
theorem dL_law_1910 : decode cL_law 1910 = .ok (.dcmp .l, 1) := dk_151 (dk_at dksL_law_76 7 rfl rfl)
theorem dL_law_1911 : decode cL_law 1911 = .ok (.ifCond .ne 5, 3) := dk_154 0 5 (dk_at dksL_law_76 8 rfl rfl)
theorem dL_law_1914 : decode cL_law 1914 = .ok (.iconst 0, 1) := dk_3 (dk_at dksL_law_76 11 rfl rfl)
theorem dL_law_1915 : decode cL_law 1915 = .ok (.ireturn, 1) := dk_172 (dk_at dksL_law_76 12 rfl rfl)
theorem dL_law_1916 : decode cL_law 1916 = .ok (.goto 586, 3) := dk_167 2 74 (dk_at dksL_law_76 13 rfl rfl)
theorem dL_law_1919 : decode cL_law 1919 = .ok (.aload_n 1, 1) := dk_43 (dk_at dksL_law_76 16 rfl rfl)
theorem dL_law_1920 : decode cL_law 1920 = .ok (.aload_n 0, 1) := dk_42 (dk_at dksL_law_76 17 rfl rfl)
theorem dL_law_1921 : decode cL_law 1921 = .ok (.iload 5, 2) := dk_21 5 (dk_at dksL_law_76 18 rfl rfl)
theorem dL_law_1923 : decode cL_law 1923 = .ok (.iconst 1, 1) := dk_4 (dk_at dksL_law_76 20 rfl rfl)
theorem dL_law_1924 : decode cL_law 1924 = .ok (.iadd, 1) := dk_96 (dk_at dksL_law_76 21 rfl rfl)
theorem dL_law_1925 : decode cL_law 1925 = .ok (.iaload, 1) := dk_46 (dk_at dksL_law_76 22 rfl rfl)
theorem dL_law_1926 : decode cL_law 1926 = .ok (.aload 4, 2) := dk_25 4 (dk_at dksL_law_77 0 rfl rfl)
theorem dL_law_1928 : decode cL_law 1928 = .ok (.invokestatic 226, 3) := dk_184 0 226 (dk_at dksL_law_77 2 rfl rfl)
theorem dL_law_1931 : decode cL_law 1931 = .ok (.istore 6, 2) := dk_54 6 (dk_at dksL_law_77 5 rfl rfl)
theorem dL_law_1933 : decode cL_law 1933 = .ok (.aload_n 2, 1) := dk_44 (dk_at dksL_law_77 7 rfl rfl)
theorem dL_law_1934 : decode cL_law 1934 = .ok (.aload_n 0, 1) := dk_42 (dk_at dksL_law_77 8 rfl rfl)
theorem dL_law_1935 : decode cL_law 1935 = .ok (.iload 5, 2) := dk_21 5 (dk_at dksL_law_77 9 rfl rfl)
theorem dL_law_1937 : decode cL_law 1937 = .ok (.iconst 1, 1) := dk_4 (dk_at dksL_law_77 11 rfl rfl)
theorem dL_law_1938 : decode cL_law 1938 = .ok (.iadd, 1) := dk_96 (dk_at dksL_law_77 12 rfl rfl)
theorem dL_law_1939 : decode cL_law 1939 = .ok (.iaload, 1) := dk_46 (dk_at dksL_law_77 13 rfl rfl)
theorem dL_law_1940 : decode cL_law 1940 = .ok (.invokevirtual 228, 3) := dk_182 0 228 (dk_at dksL_law_77 14 rfl rfl)
theorem dL_law_1943 : decode cL_law 1943 = .ok (.fstore 7, 2) := dk_56 7 (dk_at dksL_law_77 17 rfl rfl)
theorem dL_law_1945 : decode cL_law 1945 = .ok (.aload_n 2, 1) := dk_44 (dk_at dksL_law_77 19 rfl rfl)
theorem dL_law_1946 : decode cL_law 1946 = .ok (.invokevirtual 148, 3) := dk_182 0 148 (dk_at dksL_law_77 20 rfl rfl)
theorem dL_law_1949 : decode cL_law 1949 = .ok (.iload 6, 2) := dk_21 6 (dk_at dksL_law_78 0 rfl rfl)
theorem dL_law_1951 : decode cL_law 1951 = .ok (.if_icmp .eq 5, 3) := dk_159 0 5 (dk_at dksL_law_78 2 rfl rfl)
theorem dL_law_1954 : decode cL_law 1954 = .ok (.iconst 0, 1) := dk_3 (dk_at dksL_law_78 5 rfl rfl)
theorem dL_law_1955 : decode cL_law 1955 = .ok (.ireturn, 1) := dk_172 (dk_at dksL_law_78 6 rfl rfl)
theorem dL_law_1956 : decode cL_law 1956 = .ok (.iload 6, 2) := dk_21 6 (dk_at dksL_law_78 7 rfl rfl)
theorem dL_law_1958 : decode cL_law 1958 = .ok (.ifCond .ne 36, 3) := dk_154 0 36 (dk_at dksL_law_78 9 rfl rfl)
theorem dL_law_1961 : decode cL_law 1961 = .ok (.aload 4, 2) := dk_25 4 (dk_at dksL_law_78 12 rfl rfl)
theorem dL_law_1963 : decode cL_law 1963 = .ok (.iconst 0, 1) := dk_3 (dk_at dksL_law_78 14 rfl rfl)
theorem dL_law_1964 : decode cL_law 1964 = .ok (.daload, 1) := dk_49 (dk_at dksL_law_78 15 rfl rfl)
theorem dL_law_1965 : decode cL_law 1965 = .ok (.fload 7, 2) := dk_23 7 (dk_at dksL_law_78 16 rfl rfl)
theorem dL_law_1967 : decode cL_law 1967 = .ok (.f2d, 1) := dk_141 (dk_at dksL_law_78 18 rfl rfl)
theorem dL_law_1968 : decode cL_law 1968 = .ok (.dcmp .l, 1) := dk_151 (dk_at dksL_law_78 19 rfl rfl)
theorem dL_law_1969 : decode cL_law 1969 = .ok (.ifCond .eq 25, 3) := dk_153 0 25 (dk_at dksL_law_78 20 rfl rfl)
theorem dL_law_1972 : decode cL_law 1972 = .ok (.aload 4, 2) := dk_25 4 (dk_at dksL_law_79 0 rfl rfl)
theorem dL_law_1974 : decode cL_law 1974 = .ok (.iconst 0, 1) := dk_3 (dk_at dksL_law_79 2 rfl rfl)
theorem dL_law_1975 : decode cL_law 1975 = .ok (.daload, 1) := dk_49 (dk_at dksL_law_79 3 rfl rfl)
theorem dL_law_1976 : decode cL_law 1976 = .ok (.aload 4, 2) := dk_25 4 (dk_at dksL_law_79 4 rfl rfl)
theorem dL_law_1978 : decode cL_law 1978 = .ok (.iconst 0, 1) := dk_3 (dk_at dksL_law_79 6 rfl rfl)
theorem dL_law_1979 : decode cL_law 1979 = .ok (.daload, 1) := dk_49 (dk_at dksL_law_79 7 rfl rfl)
theorem dL_law_1980 : decode cL_law 1980 = .ok (.dcmp .l, 1) := dk_151 (dk_at dksL_law_79 8 rfl rfl)
theorem dL_law_1981 : decode cL_law 1981 = .ok (.ifCond .eq 11, 3) := dk_153 0 11 (dk_at dksL_law_79 9 rfl rfl)
theorem dL_law_1984 : decode cL_law 1984 = .ok (.fload 7, 2) := dk_23 7 (dk_at dksL_law_79 12 rfl rfl)
theorem dL_law_1986 : decode cL_law 1986 = .ok (.fload 7, 2) := dk_23 7 (dk_at dksL_law_79 14 rfl rfl)
theorem dL_law_1988 : decode cL_law 1988 = .ok (.fcmp .l, 1) := dk_149 (dk_at dksL_law_79 16 rfl rfl)
theorem dL_law_1989 : decode cL_law 1989 = .ok (.ifCond .ne 5, 3) := dk_154 0 5 (dk_at dksL_law_79 17 rfl rfl)
theorem dL_law_1992 : decode cL_law 1992 = .ok (.iconst 0, 1) := dk_3 (dk_at dksL_law_79 20 rfl rfl)
theorem dL_law_1993 : decode cL_law 1993 = .ok (.ireturn, 1) := dk_172 (dk_at dksL_law_79 21 rfl rfl)
theorem dL_law_1994 : decode cL_law 1994 = .ok (.goto 508, 3) := dk_167 1 252 (dk_at dksL_law_80 0 rfl rfl)
theorem dL_law_1997 : decode cL_law 1997 = .ok (.aload_n 1, 1) := dk_43 (dk_at dksL_law_80 3 rfl rfl)
theorem dL_law_1998 : decode cL_law 1998 = .ok (.invokevirtual 229, 3) := dk_182 0 229 (dk_at dksL_law_80 4 rfl rfl)
theorem dL_law_2001 : decode cL_law 2001 = .ok (.aload_n 2, 1) := dk_44 (dk_at dksL_law_80 7 rfl rfl)
theorem dL_law_2002 : decode cL_law 2002 = .ok (.invokevirtual 233, 3) := dk_182 0 233 (dk_at dksL_law_80 8 rfl rfl)
theorem dL_law_2005 : decode cL_law 2005 = .ok (.if_icmp .eq 497, 3) := dk_159 1 241 (dk_at dksL_law_80 11 rfl rfl)
theorem dL_law_2008 : decode cL_law 2008 = .ok (.iconst 0, 1) := dk_3 (dk_at dksL_law_80 14 rfl rfl)
theorem dL_law_2009 : decode cL_law 2009 = .ok (.ireturn, 1) := dk_172 (dk_at dksL_law_80 15 rfl rfl)
theorem dL_law_2010 : decode cL_law 2010 = .ok (.aload_n 1, 1) := dk_43 (dk_at dksL_law_80 16 rfl rfl)
theorem dL_law_2011 : decode cL_law 2011 = .ok (.aload_n 0, 1) := dk_42 (dk_at dksL_law_80 17 rfl rfl)
theorem dL_law_2012 : decode cL_law 2012 = .ok (.iload 5, 2) := dk_21 5 (dk_at dksL_law_80 18 rfl rfl)
theorem dL_law_2014 : decode cL_law 2014 = .ok (.iconst 1, 1) := dk_4 (dk_at dksL_law_80 20 rfl rfl)
theorem dL_law_2015 : decode cL_law 2015 = .ok (.iadd, 1) := dk_96 (dk_at dksL_law_80 21 rfl rfl)
theorem dL_law_2016 : decode cL_law 2016 = .ok (.iaload, 1) := dk_46 (dk_at dksL_law_80 22 rfl rfl)
theorem dL_law_2017 : decode cL_law 2017 = .ok (.aload_n 3, 1) := dk_45 (dk_at dksL_law_80 23 rfl rfl)
theorem dL_law_2018 : decode cL_law 2018 = .ok (.invokestatic 234, 3) := dk_184 0 234 (dk_at dksL_law_81 0 rfl rfl)
theorem dL_law_2021 : decode cL_law 2021 = .ok (.istore 6, 2) := dk_54 6 (dk_at dksL_law_81 3 rfl rfl)
theorem dL_law_2023 : decode cL_law 2023 = .ok (.aload_n 2, 1) := dk_44 (dk_at dksL_law_81 5 rfl rfl)
theorem dL_law_2024 : decode cL_law 2024 = .ok (.aload_n 0, 1) := dk_42 (dk_at dksL_law_81 6 rfl rfl)
theorem dL_law_2025 : decode cL_law 2025 = .ok (.iload 5, 2) := dk_21 5 (dk_at dksL_law_81 7 rfl rfl)
theorem dL_law_2027 : decode cL_law 2027 = .ok (.iconst 1, 1) := dk_4 (dk_at dksL_law_81 9 rfl rfl)
theorem dL_law_2028 : decode cL_law 2028 = .ok (.iadd, 1) := dk_96 (dk_at dksL_law_81 10 rfl rfl)
theorem dL_law_2029 : decode cL_law 2029 = .ok (.iaload, 1) := dk_46 (dk_at dksL_law_81 11 rfl rfl)
theorem dL_law_2030 : decode cL_law 2030 = .ok (.invokevirtual 236, 3) := dk_182 0 236 (dk_at dksL_law_81 12 rfl rfl)
theorem dL_law_2033 : decode cL_law 2033 = .ok (.istore 7, 2) := dk_54 7 (dk_at dksL_law_81 15 rfl rfl)
theorem dL_law_2035 : decode cL_law 2035 = .ok (.aload_n 2, 1) := dk_44 (dk_at dksL_law_81 17 rfl rfl)
theorem dL_law_2036 : decode cL_law 2036 = .ok (.invokevirtual 148, 3) := dk_182 0 148 (dk_at dksL_law_81 18 rfl rfl)
theorem dL_law_2039 : decode cL_law 2039 = .ok (.iload 6, 2) := dk_21 6 (dk_at dksL_law_81 21 rfl rfl)
theorem dL_law_2041 : decode cL_law 2041 = .ok (.if_icmp .eq 5, 3) := dk_159 0 5 (dk_at dksL_law_82 0 rfl rfl)
theorem dL_law_2044 : decode cL_law 2044 = .ok (.iconst 0, 1) := dk_3 (dk_at dksL_law_82 3 rfl rfl)
theorem dL_law_2045 : decode cL_law 2045 = .ok (.ireturn, 1) := dk_172 (dk_at dksL_law_82 4 rfl rfl)
theorem dL_law_2046 : decode cL_law 2046 = .ok (.iload 6, 2) := dk_21 6 (dk_at dksL_law_82 5 rfl rfl)
theorem dL_law_2048 : decode cL_law 2048 = .ok (.ifCond .ne 15, 3) := dk_154 0 15 (dk_at dksL_law_82 7 rfl rfl)
theorem dL_law_2051 : decode cL_law 2051 = .ok (.aload_n 3, 1) := dk_45 (dk_at dksL_law_82 10 rfl rfl)
theorem dL_law_2052 : decode cL_law 2052 = .ok (.iconst 0, 1) := dk_3 (dk_at dksL_law_82 11 rfl rfl)
theorem dL_law_2053 : decode cL_law 2053 = .ok (.laload, 1) := dk_47 (dk_at dksL_law_82 12 rfl rfl)
theorem dL_law_2054 : decode cL_law 2054 = .ok (.iload 7, 2) := dk_21 7 (dk_at dksL_law_82 13 rfl rfl)
theorem dL_law_2056 : decode cL_law 2056 = .ok (.i2l, 1) := dk_133 (dk_at dksL_law_82 15 rfl rfl)
theorem dL_law_2057 : decode cL_law 2057 = .ok (.lcmp, 1) := dk_148 (dk_at dksL_law_82 16 rfl rfl)
theorem dL_law_2058 : decode cL_law 2058 = .ok (.ifCond .eq 5, 3) := dk_153 0 5 (dk_at dksL_law_82 17 rfl rfl)
theorem dL_law_2061 : decode cL_law 2061 = .ok (.iconst 0, 1) := dk_3 (dk_at dksL_law_82 20 rfl rfl)
theorem dL_law_2062 : decode cL_law 2062 = .ok (.ireturn, 1) := dk_172 (dk_at dksL_law_82 21 rfl rfl)
theorem dL_law_2063 : decode cL_law 2063 = .ok (.goto 439, 3) := dk_167 1 183 (dk_at dksL_law_83 0 rfl rfl)
theorem dL_law_2066 : decode cL_law 2066 = .ok (.aload_n 1, 1) := dk_43 (dk_at dksL_law_83 3 rfl rfl)
theorem dL_law_2067 : decode cL_law 2067 = .ok (.aload_n 0, 1) := dk_42 (dk_at dksL_law_83 4 rfl rfl)
theorem dL_law_2068 : decode cL_law 2068 = .ok (.iload 5, 2) := dk_21 5 (dk_at dksL_law_83 5 rfl rfl)
theorem dL_law_2070 : decode cL_law 2070 = .ok (.iconst 1, 1) := dk_4 (dk_at dksL_law_83 7 rfl rfl)
theorem dL_law_2071 : decode cL_law 2071 = .ok (.iadd, 1) := dk_96 (dk_at dksL_law_83 8 rfl rfl)
theorem dL_law_2072 : decode cL_law 2072 = .ok (.iaload, 1) := dk_46 (dk_at dksL_law_83 9 rfl rfl)
theorem dL_law_2073 : decode cL_law 2073 = .ok (.aload_n 0, 1) := dk_42 (dk_at dksL_law_83 10 rfl rfl)
theorem dL_law_2074 : decode cL_law 2074 = .ok (.iload 5, 2) := dk_21 5 (dk_at dksL_law_83 11 rfl rfl)
theorem dL_law_2076 : decode cL_law 2076 = .ok (.iconst 2, 1) := dk_5 (dk_at dksL_law_83 13 rfl rfl)
theorem dL_law_2077 : decode cL_law 2077 = .ok (.iadd, 1) := dk_96 (dk_at dksL_law_83 14 rfl rfl)
theorem dL_law_2078 : decode cL_law 2078 = .ok (.iaload, 1) := dk_46 (dk_at dksL_law_83 15 rfl rfl)
theorem dL_law_2079 : decode cL_law 2079 = .ok (.aload_n 0, 1) := dk_42 (dk_at dksL_law_83 16 rfl rfl)
theorem dL_law_2080 : decode cL_law 2080 = .ok (.iload 5, 2) := dk_21 5 (dk_at dksL_law_83 17 rfl rfl)
theorem dL_law_2082 : decode cL_law 2082 = .ok (.iconst 3, 1) := dk_6 (dk_at dksL_law_83 19 rfl rfl)
theorem dL_law_2083 : decode cL_law 2083 = .ok (.iadd, 1) := dk_96 (dk_at dksL_law_83 20 rfl rfl)
theorem dL_law_2084 : decode cL_law 2084 = .ok (.iaload, 1) := dk_46 (dk_at dksL_law_83 21 rfl rfl)
theorem dL_law_2085 : decode cL_law 2085 = .ok (.aload_n 3, 1) := dk_45 (dk_at dksL_law_83 22 rfl rfl)
theorem dL_law_2086 : decode cL_law 2086 = .ok (.invokestatic 237, 3) := dk_184 0 237 (dk_at dksL_law_84 0 rfl rfl)
theorem dL_law_2089 : decode cL_law 2089 = .ok (.istore 6, 2) := dk_54 6 (dk_at dksL_law_84 3 rfl rfl)
theorem dL_law_2091 : decode cL_law 2091 = .ok (.aload_n 2, 1) := dk_44 (dk_at dksL_law_84 5 rfl rfl)
theorem dL_law_2092 : decode cL_law 2092 = .ok (.aload_n 0, 1) := dk_42 (dk_at dksL_law_84 6 rfl rfl)
theorem dL_law_2093 : decode cL_law 2093 = .ok (.iload 5, 2) := dk_21 5 (dk_at dksL_law_84 7 rfl rfl)
theorem dL_law_2095 : decode cL_law 2095 = .ok (.iconst 1, 1) := dk_4 (dk_at dksL_law_84 9 rfl rfl)
theorem dL_law_2096 : decode cL_law 2096 = .ok (.iadd, 1) := dk_96 (dk_at dksL_law_84 10 rfl rfl)
theorem dL_law_2097 : decode cL_law 2097 = .ok (.iaload, 1) := dk_46 (dk_at dksL_law_84 11 rfl rfl)
theorem dL_law_2098 : decode cL_law 2098 = .ok (.aload_n 0, 1) := dk_42 (dk_at dksL_law_84 12 rfl rfl)
theorem dL_law_2099 : decode cL_law 2099 = .ok (.iload 5, 2) := dk_21 5 (dk_at dksL_law_84 13 rfl rfl)
theorem dL_law_2101 : decode cL_law 2101 = .ok (.iconst 2, 1) := dk_5 (dk_at dksL_law_84 15 rfl rfl)
theorem dL_law_2102 : decode cL_law 2102 = .ok (.iadd, 1) := dk_96 (dk_at dksL_law_84 16 rfl rfl)
theorem dL_law_2103 : decode cL_law 2103 = .ok (.iaload, 1) := dk_46 (dk_at dksL_law_84 17 rfl rfl)
theorem dL_law_2104 : decode cL_law 2104 = .ok (.aload_n 0, 1) := dk_42 (dk_at dksL_law_84 18 rfl rfl)
theorem dL_law_2105 : decode cL_law 2105 = .ok (.iload 5, 2) := dk_21 5 (dk_at dksL_law_84 19 rfl rfl)
theorem dL_law_2107 : decode cL_law 2107 = .ok (.iconst 3, 1) := dk_6 (dk_at dksL_law_84 21 rfl rfl)
theorem dL_law_2108 : decode cL_law 2108 = .ok (.iadd, 1) := dk_96 (dk_at dksL_law_84 22 rfl rfl)
theorem dL_law_2109 : decode cL_law 2109 = .ok (.iaload, 1) := dk_46 (dk_at dksL_law_84 23 rfl rfl)
theorem dL_law_2110 : decode cL_law 2110 = .ok (.invokevirtual 239, 3) := dk_182 0 239 (dk_at dksL_law_85 0 rfl rfl)
theorem dL_law_2113 : decode cL_law 2113 = .ok (.istore 7, 2) := dk_54 7 (dk_at dksL_law_85 3 rfl rfl)
theorem dL_law_2115 : decode cL_law 2115 = .ok (.aload_n 2, 1) := dk_44 (dk_at dksL_law_85 5 rfl rfl)
theorem dL_law_2116 : decode cL_law 2116 = .ok (.invokevirtual 148, 3) := dk_182 0 148 (dk_at dksL_law_85 6 rfl rfl)
theorem dL_law_2119 : decode cL_law 2119 = .ok (.iload 6, 2) := dk_21 6 (dk_at dksL_law_85 9 rfl rfl)
theorem dL_law_2121 : decode cL_law 2121 = .ok (.if_icmp .eq 5, 3) := dk_159 0 5 (dk_at dksL_law_85 11 rfl rfl)
theorem dL_law_2124 : decode cL_law 2124 = .ok (.iconst 0, 1) := dk_3 (dk_at dksL_law_85 14 rfl rfl)
theorem dL_law_2125 : decode cL_law 2125 = .ok (.ireturn, 1) := dk_172 (dk_at dksL_law_85 15 rfl rfl)
theorem dL_law_2126 : decode cL_law 2126 = .ok (.iload 6, 2) := dk_21 6 (dk_at dksL_law_85 16 rfl rfl)
theorem dL_law_2128 : decode cL_law 2128 = .ok (.ifCond .ne 15, 3) := dk_154 0 15 (dk_at dksL_law_85 18 rfl rfl)
theorem dL_law_2131 : decode cL_law 2131 = .ok (.aload_n 3, 1) := dk_45 (dk_at dksL_law_85 21 rfl rfl)
theorem dL_law_2132 : decode cL_law 2132 = .ok (.iconst 0, 1) := dk_3 (dk_at dksL_law_85 22 rfl rfl)
theorem dL_law_2133 : decode cL_law 2133 = .ok (.laload, 1) := dk_47 (dk_at dksL_law_85 23 rfl rfl)
theorem dL_law_2134 : decode cL_law 2134 = .ok (.iload 7, 2) := dk_21 7 (dk_at dksL_law_86 0 rfl rfl)
theorem dL_law_2136 : decode cL_law 2136 = .ok (.i2l, 1) := dk_133 (dk_at dksL_law_86 2 rfl rfl)
theorem dL_law_2137 : decode cL_law 2137 = .ok (.lcmp, 1) := dk_148 (dk_at dksL_law_86 3 rfl rfl)
theorem dL_law_2138 : decode cL_law 2138 = .ok (.ifCond .eq 5, 3) := dk_153 0 5 (dk_at dksL_law_86 4 rfl rfl)
theorem dL_law_2141 : decode cL_law 2141 = .ok (.iconst 0, 1) := dk_3 (dk_at dksL_law_86 7 rfl rfl)
theorem dL_law_2142 : decode cL_law 2142 = .ok (.ireturn, 1) := dk_172 (dk_at dksL_law_86 8 rfl rfl)
theorem dL_law_2143 : decode cL_law 2143 = .ok (.goto 359, 3) := dk_167 1 103 (dk_at dksL_law_86 9 rfl rfl)
theorem dL_law_2146 : decode cL_law 2146 = .ok (.aload_n 1, 1) := dk_43 (dk_at dksL_law_86 12 rfl rfl)
theorem dL_law_2147 : decode cL_law 2147 = .ok (.aload_n 0, 1) := dk_42 (dk_at dksL_law_86 13 rfl rfl)
theorem dL_law_2148 : decode cL_law 2148 = .ok (.iload 5, 2) := dk_21 5 (dk_at dksL_law_86 14 rfl rfl)
theorem dL_law_2150 : decode cL_law 2150 = .ok (.iconst 1, 1) := dk_4 (dk_at dksL_law_86 16 rfl rfl)
theorem dL_law_2151 : decode cL_law 2151 = .ok (.iadd, 1) := dk_96 (dk_at dksL_law_86 17 rfl rfl)
theorem dL_law_2152 : decode cL_law 2152 = .ok (.iaload, 1) := dk_46 (dk_at dksL_law_86 18 rfl rfl)
theorem dL_law_2153 : decode cL_law 2153 = .ok (.aload_n 0, 1) := dk_42 (dk_at dksL_law_86 19 rfl rfl)
theorem dL_law_2154 : decode cL_law 2154 = .ok (.iload 5, 2) := dk_21 5 (dk_at dksL_law_86 20 rfl rfl)
theorem dL_law_2156 : decode cL_law 2156 = .ok (.iconst 2, 1) := dk_5 (dk_at dksL_law_86 22 rfl rfl)
theorem dL_law_2157 : decode cL_law 2157 = .ok (.iadd, 1) := dk_96 (dk_at dksL_law_86 23 rfl rfl)
theorem dL_law_2158 : decode cL_law 2158 = .ok (.iaload, 1) := dk_46 (dk_at dksL_law_87 0 rfl rfl)
theorem dL_law_2159 : decode cL_law 2159 = .ok (.aload_n 3, 1) := dk_45 (dk_at dksL_law_87 1 rfl rfl)
theorem dL_law_2160 : decode cL_law 2160 = .ok (.invokestatic 240, 3) := dk_184 0 240 (dk_at dksL_law_87 2 rfl rfl)
theorem dL_law_2163 : decode cL_law 2163 = .ok (.istore 6, 2) := dk_54 6 (dk_at dksL_law_87 5 rfl rfl)
theorem dL_law_2165 : decode cL_law 2165 = .ok (.aload_n 2, 1) := dk_44 (dk_at dksL_law_87 7 rfl rfl)
theorem dL_law_2166 : decode cL_law 2166 = .ok (.aload_n 0, 1) := dk_42 (dk_at dksL_law_87 8 rfl rfl)
theorem dL_law_2167 : decode cL_law 2167 = .ok (.iload 5, 2) := dk_21 5 (dk_at dksL_law_87 9 rfl rfl)
theorem dL_law_2169 : decode cL_law 2169 = .ok (.iconst 1, 1) := dk_4 (dk_at dksL_law_87 11 rfl rfl)
theorem dL_law_2170 : decode cL_law 2170 = .ok (.iadd, 1) := dk_96 (dk_at dksL_law_87 12 rfl rfl)
theorem dL_law_2171 : decode cL_law 2171 = .ok (.iaload, 1) := dk_46 (dk_at dksL_law_87 13 rfl rfl)
theorem dL_law_2172 : decode cL_law 2172 = .ok (.aload_n 0, 1) := dk_42 (dk_at dksL_law_87 14 rfl rfl)
theorem dL_law_2173 : decode cL_law 2173 = .ok (.iload 5, 2) := dk_21 5 (dk_at dksL_law_87 15 rfl rfl)
theorem dL_law_2175 : decode cL_law 2175 = .ok (.iconst 2, 1) := dk_5 (dk_at dksL_law_87 17 rfl rfl)
theorem dL_law_2176 : decode cL_law 2176 = .ok (.iadd, 1) := dk_96 (dk_at dksL_law_87 18 rfl rfl)
theorem dL_law_2177 : decode cL_law 2177 = .ok (.iaload, 1) := dk_46 (dk_at dksL_law_87 19 rfl rfl)
theorem dL_law_2178 : decode cL_law 2178 = .ok (.invokevirtual 242, 3) := dk_182 0 242 (dk_at dksL_law_87 20 rfl rfl)
theorem dL_law_2181 : decode cL_law 2181 = .ok (.lstore 7, 2) := dk_55 7 (dk_at dksL_law_88 0 rfl rfl)
theorem dL_law_2183 : decode cL_law 2183 = .ok (.aload_n 2, 1) := dk_44 (dk_at dksL_law_88 2 rfl rfl)
theorem dL_law_2184 : decode cL_law 2184 = .ok (.invokevirtual 148, 3) := dk_182 0 148 (dk_at dksL_law_88 3 rfl rfl)
theorem dL_law_2187 : decode cL_law 2187 = .ok (.iload 6, 2) := dk_21 6 (dk_at dksL_law_88 6 rfl rfl)
theorem dL_law_2189 : decode cL_law 2189 = .ok (.if_icmp .eq 5, 3) := dk_159 0 5 (dk_at dksL_law_88 8 rfl rfl)
theorem dL_law_2192 : decode cL_law 2192 = .ok (.iconst 0, 1) := dk_3 (dk_at dksL_law_88 11 rfl rfl)
theorem dL_law_2193 : decode cL_law 2193 = .ok (.ireturn, 1) := dk_172 (dk_at dksL_law_88 12 rfl rfl)
theorem dL_law_2194 : decode cL_law 2194 = .ok (.iload 6, 2) := dk_21 6 (dk_at dksL_law_88 13 rfl rfl)
theorem dL_law_2196 : decode cL_law 2196 = .ok (.ifCond .ne 14, 3) := dk_154 0 14 (dk_at dksL_law_88 15 rfl rfl)
theorem dL_law_2199 : decode cL_law 2199 = .ok (.aload_n 3, 1) := dk_45 (dk_at dksL_law_88 18 rfl rfl)
theorem dL_law_2200 : decode cL_law 2200 = .ok (.iconst 0, 1) := dk_3 (dk_at dksL_law_88 19 rfl rfl)
theorem dL_law_2201 : decode cL_law 2201 = .ok (.laload, 1) := dk_47 (dk_at dksL_law_88 20 rfl rfl)
theorem dL_law_2202 : decode cL_law 2202 = .ok (.lload 7, 2) := dk_22 7 (dk_at dksL_law_88 21 rfl rfl)
theorem dL_law_2204 : decode cL_law 2204 = .ok (.lcmp, 1) := dk_148 (dk_at dksL_law_88 23 rfl rfl)
theorem dL_law_2205 : decode cL_law 2205 = .ok (.ifCond .eq 5, 3) := dk_153 0 5 (dk_at dksL_law_89 0 rfl rfl)
theorem dL_law_2208 : decode cL_law 2208 = .ok (.iconst 0, 1) := dk_3 (dk_at dksL_law_89 3 rfl rfl)
theorem dL_law_2209 : decode cL_law 2209 = .ok (.ireturn, 1) := dk_172 (dk_at dksL_law_89 4 rfl rfl)
theorem dL_law_2210 : decode cL_law 2210 = .ok (.goto 292, 3) := dk_167 1 36 (dk_at dksL_law_89 5 rfl rfl)
theorem dL_law_2213 : decode cL_law 2213 = .ok (.aload_n 1, 1) := dk_43 (dk_at dksL_law_89 8 rfl rfl)
theorem dL_law_2214 : decode cL_law 2214 = .ok (.aload_n 0, 1) := dk_42 (dk_at dksL_law_89 9 rfl rfl)
theorem dL_law_2215 : decode cL_law 2215 = .ok (.iload 5, 2) := dk_21 5 (dk_at dksL_law_89 10 rfl rfl)
theorem dL_law_2217 : decode cL_law 2217 = .ok (.iconst 1, 1) := dk_4 (dk_at dksL_law_89 12 rfl rfl)
theorem dL_law_2218 : decode cL_law 2218 = .ok (.iadd, 1) := dk_96 (dk_at dksL_law_89 13 rfl rfl)
theorem dL_law_2219 : decode cL_law 2219 = .ok (.iaload, 1) := dk_46 (dk_at dksL_law_89 14 rfl rfl)
theorem dL_law_2220 : decode cL_law 2220 = .ok (.aload_n 3, 1) := dk_45 (dk_at dksL_law_89 15 rfl rfl)
theorem dL_law_2221 : decode cL_law 2221 = .ok (.invokestatic 243, 3) := dk_184 0 243 (dk_at dksL_law_89 16 rfl rfl)
theorem dL_law_2224 : decode cL_law 2224 = .ok (.istore 6, 2) := dk_54 6 (dk_at dksL_law_89 19 rfl rfl)
theorem dL_law_2226 : decode cL_law 2226 = .ok (.aload_n 2, 1) := dk_44 (dk_at dksL_law_89 21 rfl rfl)
theorem dL_law_2227 : decode cL_law 2227 = .ok (.aload_n 0, 1) := dk_42 (dk_at dksL_law_89 22 rfl rfl)
theorem dL_law_2228 : decode cL_law 2228 = .ok (.iload 5, 2) := dk_21 5 (dk_at dksL_law_90 0 rfl rfl)
theorem dL_law_2230 : decode cL_law 2230 = .ok (.iconst 1, 1) := dk_4 (dk_at dksL_law_90 2 rfl rfl)
theorem dL_law_2231 : decode cL_law 2231 = .ok (.iadd, 1) := dk_96 (dk_at dksL_law_90 3 rfl rfl)
theorem dL_law_2232 : decode cL_law 2232 = .ok (.iaload, 1) := dk_46 (dk_at dksL_law_90 4 rfl rfl)
theorem dL_law_2233 : decode cL_law 2233 = .ok (.invokevirtual 245, 3) := dk_182 0 245 (dk_at dksL_law_90 5 rfl rfl)
theorem dL_law_2236 : decode cL_law 2236 = .ok (.istore 7, 2) := dk_54 7 (dk_at dksL_law_90 8 rfl rfl)
theorem dL_law_2238 : decode cL_law 2238 = .ok (.aload_n 2, 1) := dk_44 (dk_at dksL_law_90 10 rfl rfl)
theorem dL_law_2239 : decode cL_law 2239 = .ok (.invokevirtual 148, 3) := dk_182 0 148 (dk_at dksL_law_90 11 rfl rfl)
theorem dL_law_2242 : decode cL_law 2242 = .ok (.iload 6, 2) := dk_21 6 (dk_at dksL_law_90 14 rfl rfl)
theorem dL_law_2244 : decode cL_law 2244 = .ok (.if_icmp .eq 5, 3) := dk_159 0 5 (dk_at dksL_law_90 16 rfl rfl)
theorem dL_law_2247 : decode cL_law 2247 = .ok (.iconst 0, 1) := dk_3 (dk_at dksL_law_90 19 rfl rfl)
theorem dL_law_2248 : decode cL_law 2248 = .ok (.ireturn, 1) := dk_172 (dk_at dksL_law_90 20 rfl rfl)
theorem dL_law_2249 : decode cL_law 2249 = .ok (.iload 6, 2) := dk_21 6 (dk_at dksL_law_90 21 rfl rfl)
theorem dL_law_2251 : decode cL_law 2251 = .ok (.ifCond .ne 15, 3) := dk_154 0 15 (dk_at dksL_law_91 0 rfl rfl)
theorem dL_law_2254 : decode cL_law 2254 = .ok (.aload_n 3, 1) := dk_45 (dk_at dksL_law_91 3 rfl rfl)
theorem dL_law_2255 : decode cL_law 2255 = .ok (.iconst 0, 1) := dk_3 (dk_at dksL_law_91 4 rfl rfl)
theorem dL_law_2256 : decode cL_law 2256 = .ok (.laload, 1) := dk_47 (dk_at dksL_law_91 5 rfl rfl)
theorem dL_law_2257 : decode cL_law 2257 = .ok (.iload 7, 2) := dk_21 7 (dk_at dksL_law_91 6 rfl rfl)
theorem dL_law_2259 : decode cL_law 2259 = .ok (.i2l, 1) := dk_133 (dk_at dksL_law_91 8 rfl rfl)
theorem dL_law_2260 : decode cL_law 2260 = .ok (.lcmp, 1) := dk_148 (dk_at dksL_law_91 9 rfl rfl)
theorem dL_law_2261 : decode cL_law 2261 = .ok (.ifCond .eq 5, 3) := dk_153 0 5 (dk_at dksL_law_91 10 rfl rfl)
theorem dL_law_2264 : decode cL_law 2264 = .ok (.iconst 0, 1) := dk_3 (dk_at dksL_law_91 13 rfl rfl)
theorem dL_law_2265 : decode cL_law 2265 = .ok (.ireturn, 1) := dk_172 (dk_at dksL_law_91 14 rfl rfl)
theorem dL_law_2266 : decode cL_law 2266 = .ok (.goto 236, 3) := dk_167 0 236 (dk_at dksL_law_91 15 rfl rfl)
theorem dL_law_2269 : decode cL_law 2269 = .ok (.aload_n 1, 1) := dk_43 (dk_at dksL_law_91 18 rfl rfl)
theorem dL_law_2270 : decode cL_law 2270 = .ok (.aload_n 3, 1) := dk_45 (dk_at dksL_law_91 19 rfl rfl)
theorem dL_law_2271 : decode cL_law 2271 = .ok (.invokestatic 246, 3) := dk_184 0 246 (dk_at dksL_law_91 20 rfl rfl)
theorem dL_law_2274 : decode cL_law 2274 = .ok (.istore 6, 2) := dk_54 6 (dk_at dksL_law_92 0 rfl rfl)
theorem dL_law_2276 : decode cL_law 2276 = .ok (.aload_n 2, 1) := dk_44 (dk_at dksL_law_92 2 rfl rfl)
theorem dL_law_2277 : decode cL_law 2277 = .ok (.invokevirtual 248, 3) := dk_182 0 248 (dk_at dksL_law_92 3 rfl rfl)
theorem dL_law_2280 : decode cL_law 2280 = .ok (.istore 7, 2) := dk_54 7 (dk_at dksL_law_92 6 rfl rfl)
theorem dL_law_2282 : decode cL_law 2282 = .ok (.aload_n 2, 1) := dk_44 (dk_at dksL_law_92 8 rfl rfl)
theorem dL_law_2283 : decode cL_law 2283 = .ok (.invokevirtual 148, 3) := dk_182 0 148 (dk_at dksL_law_92 9 rfl rfl)
theorem dL_law_2286 : decode cL_law 2286 = .ok (.iload 6, 2) := dk_21 6 (dk_at dksL_law_92 12 rfl rfl)
theorem dL_law_2288 : decode cL_law 2288 = .ok (.if_icmp .eq 5, 3) := dk_159 0 5 (dk_at dksL_law_92 14 rfl rfl)
theorem dL_law_2291 : decode cL_law 2291 = .ok (.iconst 0, 1) := dk_3 (dk_at dksL_law_92 17 rfl rfl)
theorem dL_law_2292 : decode cL_law 2292 = .ok (.ireturn, 1) := dk_172 (dk_at dksL_law_92 18 rfl rfl)
theorem dL_law_2293 : decode cL_law 2293 = .ok (.iload 6, 2) := dk_21 6 (dk_at dksL_law_92 19 rfl rfl)
theorem dL_law_2295 : decode cL_law 2295 = .ok (.ifCond .ne 15, 3) := dk_154 0 15 (dk_at dksL_law_92 21 rfl rfl)
theorem dL_law_2298 : decode cL_law 2298 = .ok (.aload_n 3, 1) := dk_45 (dk_at dksL_law_93 0 rfl rfl)
theorem dL_law_2299 : decode cL_law 2299 = .ok (.iconst 0, 1) := dk_3 (dk_at dksL_law_93 1 rfl rfl)
theorem dL_law_2300 : decode cL_law 2300 = .ok (.laload, 1) := dk_47 (dk_at dksL_law_93 2 rfl rfl)
theorem dL_law_2301 : decode cL_law 2301 = .ok (.iload 7, 2) := dk_21 7 (dk_at dksL_law_93 3 rfl rfl)
theorem dL_law_2303 : decode cL_law 2303 = .ok (.i2l, 1) := dk_133 (dk_at dksL_law_93 5 rfl rfl)
theorem dL_law_2304 : decode cL_law 2304 = .ok (.lcmp, 1) := dk_148 (dk_at dksL_law_93 6 rfl rfl)
theorem dL_law_2305 : decode cL_law 2305 = .ok (.ifCond .eq 5, 3) := dk_153 0 5 (dk_at dksL_law_93 7 rfl rfl)
theorem dL_law_2308 : decode cL_law 2308 = .ok (.iconst 0, 1) := dk_3 (dk_at dksL_law_93 10 rfl rfl)
theorem dL_law_2309 : decode cL_law 2309 = .ok (.ireturn, 1) := dk_172 (dk_at dksL_law_93 11 rfl rfl)
theorem dL_law_2310 : decode cL_law 2310 = .ok (.goto 192, 3) := dk_167 0 192 (dk_at dksL_law_93 12 rfl rfl)
theorem dL_law_2313 : decode cL_law 2313 = .ok (.aload_n 1, 1) := dk_43 (dk_at dksL_law_93 15 rfl rfl)
theorem dL_law_2314 : decode cL_law 2314 = .ok (.aload_n 3, 1) := dk_45 (dk_at dksL_law_93 16 rfl rfl)
theorem dL_law_2315 : decode cL_law 2315 = .ok (.invokestatic 249, 3) := dk_184 0 249 (dk_at dksL_law_93 17 rfl rfl)
theorem dL_law_2318 : decode cL_law 2318 = .ok (.istore 6, 2) := dk_54 6 (dk_at dksL_law_93 20 rfl rfl)
theorem dL_law_2320 : decode cL_law 2320 = .ok (.aload_n 2, 1) := dk_44 (dk_at dksL_law_93 22 rfl rfl)
theorem dL_law_2321 : decode cL_law 2321 = .ok (.invokevirtual 251, 3) := dk_182 0 251 (dk_at dksL_law_94 0 rfl rfl)
theorem dL_law_2324 : decode cL_law 2324 = .ok (.istore 7, 2) := dk_54 7 (dk_at dksL_law_94 3 rfl rfl)
theorem dL_law_2326 : decode cL_law 2326 = .ok (.aload_n 2, 1) := dk_44 (dk_at dksL_law_94 5 rfl rfl)
theorem dL_law_2327 : decode cL_law 2327 = .ok (.invokevirtual 148, 3) := dk_182 0 148 (dk_at dksL_law_94 6 rfl rfl)
theorem dL_law_2330 : decode cL_law 2330 = .ok (.iload 6, 2) := dk_21 6 (dk_at dksL_law_94 9 rfl rfl)
theorem dL_law_2332 : decode cL_law 2332 = .ok (.if_icmp .eq 5, 3) := dk_159 0 5 (dk_at dksL_law_94 11 rfl rfl)
theorem dL_law_2335 : decode cL_law 2335 = .ok (.iconst 0, 1) := dk_3 (dk_at dksL_law_94 14 rfl rfl)
theorem dL_law_2336 : decode cL_law 2336 = .ok (.ireturn, 1) := dk_172 (dk_at dksL_law_94 15 rfl rfl)
theorem dL_law_2337 : decode cL_law 2337 = .ok (.iload 6, 2) := dk_21 6 (dk_at dksL_law_94 16 rfl rfl)
theorem dL_law_2339 : decode cL_law 2339 = .ok (.ifCond .ne 15, 3) := dk_154 0 15 (dk_at dksL_law_94 18 rfl rfl)
theorem dL_law_2342 : decode cL_law 2342 = .ok (.aload_n 3, 1) := dk_45 (dk_at dksL_law_94 21 rfl rfl)
theorem dL_law_2343 : decode cL_law 2343 = .ok (.iconst 0, 1) := dk_3 (dk_at dksL_law_94 22 rfl rfl)
theorem dL_law_2344 : decode cL_law 2344 = .ok (.laload, 1) := dk_47 (dk_at dksL_law_94 23 rfl rfl)
theorem dL_law_2345 : decode cL_law 2345 = .ok (.iload 7, 2) := dk_21 7 (dk_at dksL_law_95 0 rfl rfl)
theorem dL_law_2347 : decode cL_law 2347 = .ok (.i2l, 1) := dk_133 (dk_at dksL_law_95 2 rfl rfl)
theorem dL_law_2348 : decode cL_law 2348 = .ok (.lcmp, 1) := dk_148 (dk_at dksL_law_95 3 rfl rfl)
theorem dL_law_2349 : decode cL_law 2349 = .ok (.ifCond .eq 5, 3) := dk_153 0 5 (dk_at dksL_law_95 4 rfl rfl)
theorem dL_law_2352 : decode cL_law 2352 = .ok (.iconst 0, 1) := dk_3 (dk_at dksL_law_95 7 rfl rfl)
theorem dL_law_2353 : decode cL_law 2353 = .ok (.ireturn, 1) := dk_172 (dk_at dksL_law_95 8 rfl rfl)
theorem dL_law_2354 : decode cL_law 2354 = .ok (.goto 148, 3) := dk_167 0 148 (dk_at dksL_law_95 9 rfl rfl)
theorem dL_law_2357 : decode cL_law 2357 = .ok (.aload_n 1, 1) := dk_43 (dk_at dksL_law_95 12 rfl rfl)
theorem dL_law_2358 : decode cL_law 2358 = .ok (.aload_n 3, 1) := dk_45 (dk_at dksL_law_95 13 rfl rfl)
theorem dL_law_2359 : decode cL_law 2359 = .ok (.invokestatic 252, 3) := dk_184 0 252 (dk_at dksL_law_95 14 rfl rfl)
theorem dL_law_2362 : decode cL_law 2362 = .ok (.istore 6, 2) := dk_54 6 (dk_at dksL_law_95 17 rfl rfl)
theorem dL_law_2364 : decode cL_law 2364 = .ok (.aload_n 2, 1) := dk_44 (dk_at dksL_law_95 19 rfl rfl)
theorem dL_law_2365 : decode cL_law 2365 = .ok (.invokevirtual 254, 3) := dk_182 0 254 (dk_at dksL_law_95 20 rfl rfl)
theorem dL_law_2368 : decode cL_law 2368 = .ok (.istore 7, 2) := dk_54 7 (dk_at dksL_law_96 0 rfl rfl)
theorem dL_law_2370 : decode cL_law 2370 = .ok (.aload_n 2, 1) := dk_44 (dk_at dksL_law_96 2 rfl rfl)
theorem dL_law_2371 : decode cL_law 2371 = .ok (.invokevirtual 148, 3) := dk_182 0 148 (dk_at dksL_law_96 3 rfl rfl)
theorem dL_law_2374 : decode cL_law 2374 = .ok (.iload 6, 2) := dk_21 6 (dk_at dksL_law_96 6 rfl rfl)
theorem dL_law_2376 : decode cL_law 2376 = .ok (.if_icmp .eq 5, 3) := dk_159 0 5 (dk_at dksL_law_96 8 rfl rfl)
theorem dL_law_2379 : decode cL_law 2379 = .ok (.iconst 0, 1) := dk_3 (dk_at dksL_law_96 11 rfl rfl)
theorem dL_law_2380 : decode cL_law 2380 = .ok (.ireturn, 1) := dk_172 (dk_at dksL_law_96 12 rfl rfl)
theorem dL_law_2381 : decode cL_law 2381 = .ok (.iload 6, 2) := dk_21 6 (dk_at dksL_law_96 13 rfl rfl)
theorem dL_law_2383 : decode cL_law 2383 = .ok (.ifCond .ne 15, 3) := dk_154 0 15 (dk_at dksL_law_96 15 rfl rfl)
theorem dL_law_2386 : decode cL_law 2386 = .ok (.aload_n 3, 1) := dk_45 (dk_at dksL_law_96 18 rfl rfl)
theorem dL_law_2387 : decode cL_law 2387 = .ok (.iconst 0, 1) := dk_3 (dk_at dksL_law_96 19 rfl rfl)
theorem dL_law_2388 : decode cL_law 2388 = .ok (.laload, 1) := dk_47 (dk_at dksL_law_96 20 rfl rfl)
theorem dL_law_2389 : decode cL_law 2389 = .ok (.iload 7, 2) := dk_21 7 (dk_at dksL_law_96 21 rfl rfl)
theorem dL_law_2391 : decode cL_law 2391 = .ok (.i2l, 1) := dk_133 (dk_at dksL_law_96 23 rfl rfl)
theorem dL_law_2392 : decode cL_law 2392 = .ok (.lcmp, 1) := dk_148 (dk_at dksL_law_97 0 rfl rfl)
theorem dL_law_2393 : decode cL_law 2393 = .ok (.ifCond .eq 5, 3) := dk_153 0 5 (dk_at dksL_law_97 1 rfl rfl)
theorem dL_law_2396 : decode cL_law 2396 = .ok (.iconst 0, 1) := dk_3 (dk_at dksL_law_97 4 rfl rfl)
theorem dL_law_2397 : decode cL_law 2397 = .ok (.ireturn, 1) := dk_172 (dk_at dksL_law_97 5 rfl rfl)
theorem dL_law_2398 : decode cL_law 2398 = .ok (.goto 104, 3) := dk_167 0 104 (dk_at dksL_law_97 6 rfl rfl)
theorem dL_law_2401 : decode cL_law 2401 = .ok (.aload_n 1, 1) := dk_43 (dk_at dksL_law_97 9 rfl rfl)
theorem dL_law_2402 : decode cL_law 2402 = .ok (.aload_n 3, 1) := dk_45 (dk_at dksL_law_97 10 rfl rfl)
theorem dL_law_2403 : decode cL_law 2403 = .ok (.invokestatic 255, 3) := dk_184 0 255 (dk_at dksL_law_97 11 rfl rfl)
theorem dL_law_2406 : decode cL_law 2406 = .ok (.istore 6, 2) := dk_54 6 (dk_at dksL_law_97 14 rfl rfl)
theorem dL_law_2408 : decode cL_law 2408 = .ok (.aload_n 2, 1) := dk_44 (dk_at dksL_law_97 16 rfl rfl)
theorem dL_law_2409 : decode cL_law 2409 = .ok (.invokevirtual 257, 3) := dk_182 1 1 (dk_at dksL_law_97 17 rfl rfl)
theorem dL_law_2412 : decode cL_law 2412 = .ok (.istore 7, 2) := dk_54 7 (dk_at dksL_law_97 20 rfl rfl)
theorem dL_law_2414 : decode cL_law 2414 = .ok (.aload_n 2, 1) := dk_44 (dk_at dksL_law_97 22 rfl rfl)
theorem dL_law_2415 : decode cL_law 2415 = .ok (.invokevirtual 148, 3) := dk_182 0 148 (dk_at dksL_law_98 0 rfl rfl)
theorem dL_law_2418 : decode cL_law 2418 = .ok (.iload 6, 2) := dk_21 6 (dk_at dksL_law_98 3 rfl rfl)
theorem dL_law_2420 : decode cL_law 2420 = .ok (.if_icmp .eq 5, 3) := dk_159 0 5 (dk_at dksL_law_98 5 rfl rfl)
theorem dL_law_2423 : decode cL_law 2423 = .ok (.iconst 0, 1) := dk_3 (dk_at dksL_law_98 8 rfl rfl)
theorem dL_law_2424 : decode cL_law 2424 = .ok (.ireturn, 1) := dk_172 (dk_at dksL_law_98 9 rfl rfl)
theorem dL_law_2425 : decode cL_law 2425 = .ok (.iload 6, 2) := dk_21 6 (dk_at dksL_law_98 10 rfl rfl)
theorem dL_law_2427 : decode cL_law 2427 = .ok (.ifCond .ne 15, 3) := dk_154 0 15 (dk_at dksL_law_98 12 rfl rfl)
theorem dL_law_2430 : decode cL_law 2430 = .ok (.aload_n 3, 1) := dk_45 (dk_at dksL_law_98 15 rfl rfl)
theorem dL_law_2431 : decode cL_law 2431 = .ok (.iconst 0, 1) := dk_3 (dk_at dksL_law_98 16 rfl rfl)
theorem dL_law_2432 : decode cL_law 2432 = .ok (.laload, 1) := dk_47 (dk_at dksL_law_98 17 rfl rfl)
theorem dL_law_2433 : decode cL_law 2433 = .ok (.iload 7, 2) := dk_21 7 (dk_at dksL_law_98 18 rfl rfl)
theorem dL_law_2435 : decode cL_law 2435 = .ok (.i2l, 1) := dk_133 (dk_at dksL_law_98 20 rfl rfl)
theorem dL_law_2436 : decode cL_law 2436 = .ok (.lcmp, 1) := dk_148 (dk_at dksL_law_98 21 rfl rfl)
theorem dL_law_2437 : decode cL_law 2437 = .ok (.ifCond .eq 5, 3) := dk_153 0 5 (dk_at dksL_law_99 0 rfl rfl)
theorem dL_law_2440 : decode cL_law 2440 = .ok (.iconst 0, 1) := dk_3 (dk_at dksL_law_99 3 rfl rfl)
theorem dL_law_2441 : decode cL_law 2441 = .ok (.ireturn, 1) := dk_172 (dk_at dksL_law_99 4 rfl rfl)
theorem dL_law_2442 : decode cL_law 2442 = .ok (.goto 60, 3) := dk_167 0 60 (dk_at dksL_law_99 5 rfl rfl)
theorem dL_law_2445 : decode cL_law 2445 = .ok (.aload_n 1, 1) := dk_43 (dk_at dksL_law_99 8 rfl rfl)
theorem dL_law_2446 : decode cL_law 2446 = .ok (.invokevirtual 258, 3) := dk_182 1 2 (dk_at dksL_law_99 9 rfl rfl)
theorem dL_law_2449 : decode cL_law 2449 = .ok (.aload_n 2, 1) := dk_44 (dk_at dksL_law_99 12 rfl rfl)
theorem dL_law_2450 : decode cL_law 2450 = .ok (.invokevirtual 261, 3) := dk_182 1 5 (dk_at dksL_law_99 13 rfl rfl)
theorem dL_law_2453 : decode cL_law 2453 = .ok (.if_icmp .eq 49, 3) := dk_159 0 49 (dk_at dksL_law_99 16 rfl rfl)
theorem dL_law_2456 : decode cL_law 2456 = .ok (.iconst 0, 1) := dk_3 (dk_at dksL_law_99 19 rfl rfl)
theorem dL_law_2457 : decode cL_law 2457 = .ok (.ireturn, 1) := dk_172 (dk_at dksL_law_99 20 rfl rfl)
theorem dL_law_2458 : decode cL_law 2458 = .ok (.aload_n 1, 1) := dk_43 (dk_at dksL_law_99 21 rfl rfl)
theorem dL_law_2459 : decode cL_law 2459 = .ok (.aload_n 3, 1) := dk_45 (dk_at dksL_law_99 22 rfl rfl)
theorem dL_law_2460 : decode cL_law 2460 = .ok (.invokestatic 262, 3) := dk_184 1 6 (dk_at dksL_law_100 0 rfl rfl)
theorem dL_law_2463 : decode cL_law 2463 = .ok (.istore 6, 2) := dk_54 6 (dk_at dksL_law_100 3 rfl rfl)
theorem dL_law_2465 : decode cL_law 2465 = .ok (.aload_n 2, 1) := dk_44 (dk_at dksL_law_100 5 rfl rfl)
theorem dL_law_2466 : decode cL_law 2466 = .ok (.invokevirtual 264, 3) := dk_182 1 8 (dk_at dksL_law_100 6 rfl rfl)
theorem dL_law_2469 : decode cL_law 2469 = .ok (.istore 7, 2) := dk_54 7 (dk_at dksL_law_100 9 rfl rfl)
theorem dL_law_2471 : decode cL_law 2471 = .ok (.aload_n 2, 1) := dk_44 (dk_at dksL_law_100 11 rfl rfl)
theorem dL_law_2472 : decode cL_law 2472 = .ok (.invokevirtual 148, 3) := dk_182 0 148 (dk_at dksL_law_100 12 rfl rfl)
theorem dL_law_2475 : decode cL_law 2475 = .ok (.iload 6, 2) := dk_21 6 (dk_at dksL_law_100 15 rfl rfl)
theorem dL_law_2477 : decode cL_law 2477 = .ok (.if_icmp .eq 5, 3) := dk_159 0 5 (dk_at dksL_law_100 17 rfl rfl)
theorem dL_law_2480 : decode cL_law 2480 = .ok (.iconst 0, 1) := dk_3 (dk_at dksL_law_100 20 rfl rfl)
theorem dL_law_2481 : decode cL_law 2481 = .ok (.ireturn, 1) := dk_172 (dk_at dksL_law_100 21 rfl rfl)
theorem dL_law_2482 : decode cL_law 2482 = .ok (.iload 6, 2) := dk_21 6 (dk_at dksL_law_100 22 rfl rfl)
theorem dL_law_2484 : decode cL_law 2484 = .ok (.ifCond .ne 15, 3) := dk_154 0 15 (dk_at dksL_law_101 0 rfl rfl)
theorem dL_law_2487 : decode cL_law 2487 = .ok (.aload_n 3, 1) := dk_45 (dk_at dksL_law_101 3 rfl rfl)
theorem dL_law_2488 : decode cL_law 2488 = .ok (.iconst 0, 1) := dk_3 (dk_at dksL_law_101 4 rfl rfl)
theorem dL_law_2489 : decode cL_law 2489 = .ok (.laload, 1) := dk_47 (dk_at dksL_law_101 5 rfl rfl)
theorem dL_law_2490 : decode cL_law 2490 = .ok (.iload 7, 2) := dk_21 7 (dk_at dksL_law_101 6 rfl rfl)
theorem dL_law_2492 : decode cL_law 2492 = .ok (.i2l, 1) := dk_133 (dk_at dksL_law_101 8 rfl rfl)
theorem dL_law_2493 : decode cL_law 2493 = .ok (.lcmp, 1) := dk_148 (dk_at dksL_law_101 9 rfl rfl)
theorem dL_law_2494 : decode cL_law 2494 = .ok (.ifCond .eq 5, 3) := dk_153 0 5 (dk_at dksL_law_101 10 rfl rfl)
theorem dL_law_2497 : decode cL_law 2497 = .ok (.iconst 0, 1) := dk_3 (dk_at dksL_law_101 13 rfl rfl)
theorem dL_law_2498 : decode cL_law 2498 = .ok (.ireturn, 1) := dk_172 (dk_at dksL_law_101 14 rfl rfl)
theorem dL_law_2499 : decode cL_law 2499 = .ok (.goto 3, 3) := dk_167 0 3 (dk_at dksL_law_101 15 rfl rfl)
theorem dL_law_2502 : decode cL_law 2502 = .ok (.iinc 5 5, 3) := dk_132 5 5 (dk_at dksL_law_101 18 rfl rfl)
theorem dL_law_2505 : decode cL_law 2505 = .ok (.goto (-2477), 3) := dk_167 246 83 (dk_at dksL_law_101 21 rfl rfl)
theorem dL_law_2508 : decode cL_law 2508 = .ok (.iconst 1, 1) := dk_4 (dk_at dksL_law_102 0 rfl rfl)
theorem dL_law_2509 : decode cL_law 2509 = .ok (.ireturn, 1) := dk_172 (dk_at dksL_law_102 1 rfl rfl)
/-! TermsDeskLaw -/
set_option maxRecDepth 100000
def RX0 : String := "TermsDeskLaw"
abbrev cX0_addLicence : ByteArray := method_3_code
def yX0_addLicence : MethodName := ⟨RX0, "addLicence", "(LTermsDesk;III[J)I"⟩
def dkwX0_addLicence_1 : List UInt8 := [172]
abbrev dktX0_addLicence_1 : List UInt8 := dkwX0_addLicence_1 ++ []
def dkwX0_addLicence_0 : List UInt8 := [25, 4, 3, 42, 27, 28, 29, 182, 0, 7, 133, 80, 167, 0, 11, 58, 5, 4, 172, 58, 5, 5, 172, 3]
abbrev dktX0_addLicence_0 : List UInt8 := dkwX0_addLicence_0 ++ dktX0_addLicence_1
theorem dksX0_addLicence_0 : cX0_addLicence.data.toList.drop 0 = dktX0_addLicence_0 := by decide +kernel
theorem dksX0_addLicence_1 : cX0_addLicence.data.toList.drop 24 = dktX0_addLicence_1 := dk_seg dksX0_addLicence_0 24 rfl rfl
theorem dX0_addLicence_0 : decode cX0_addLicence 0 = .ok (.aload 4, 2) := dk_25 4 (dk_at dksX0_addLicence_0 0 rfl rfl)
theorem dX0_addLicence_2 : decode cX0_addLicence 2 = .ok (.iconst 0, 1) := dk_3 (dk_at dksX0_addLicence_0 2 rfl rfl)
theorem dX0_addLicence_3 : decode cX0_addLicence 3 = .ok (.aload_n 0, 1) := dk_42 (dk_at dksX0_addLicence_0 3 rfl rfl)
theorem dX0_addLicence_4 : decode cX0_addLicence 4 = .ok (.iload_n 1, 1) := dk_27 (dk_at dksX0_addLicence_0 4 rfl rfl)
theorem dX0_addLicence_5 : decode cX0_addLicence 5 = .ok (.iload_n 2, 1) := dk_28 (dk_at dksX0_addLicence_0 5 rfl rfl)
theorem dX0_addLicence_6 : decode cX0_addLicence 6 = .ok (.iload_n 3, 1) := dk_29 (dk_at dksX0_addLicence_0 6 rfl rfl)
theorem dX0_addLicence_7 : decode cX0_addLicence 7 = .ok (.invokevirtual 7, 3) := dk_182 0 7 (dk_at dksX0_addLicence_0 7 rfl rfl)
theorem dX0_addLicence_10 : decode cX0_addLicence 10 = .ok (.i2l, 1) := dk_133 (dk_at dksX0_addLicence_0 10 rfl rfl)
theorem dX0_addLicence_11 : decode cX0_addLicence 11 = .ok (.lastore, 1) := dk_80 (dk_at dksX0_addLicence_0 11 rfl rfl)
theorem dX0_addLicence_12 : decode cX0_addLicence 12 = .ok (.goto 11, 3) := dk_167 0 11 (dk_at dksX0_addLicence_0 12 rfl rfl)
theorem dX0_addLicence_15 : decode cX0_addLicence 15 = .ok (.astore 5, 2) := dk_58 5 (dk_at dksX0_addLicence_0 15 rfl rfl)
theorem dX0_addLicence_17 : decode cX0_addLicence 17 = .ok (.iconst 1, 1) := dk_4 (dk_at dksX0_addLicence_0 17 rfl rfl)
theorem dX0_addLicence_18 : decode cX0_addLicence 18 = .ok (.ireturn, 1) := dk_172 (dk_at dksX0_addLicence_0 18 rfl rfl)
theorem dX0_addLicence_19 : decode cX0_addLicence 19 = .ok (.astore 5, 2) := dk_58 5 (dk_at dksX0_addLicence_0 19 rfl rfl)
theorem dX0_addLicence_21 : decode cX0_addLicence 21 = .ok (.iconst 2, 1) := dk_5 (dk_at dksX0_addLicence_0 21 rfl rfl)
theorem dX0_addLicence_22 : decode cX0_addLicence 22 = .ok (.ireturn, 1) := dk_172 (dk_at dksX0_addLicence_0 22 rfl rfl)
theorem dX0_addLicence_23 : decode cX0_addLicence 23 = .ok (.iconst 0, 1) := dk_3 (dk_at dksX0_addLicence_0 23 rfl rfl)
theorem dX0_addLicence_24 : decode cX0_addLicence 24 = .ok (.ireturn, 1) := dk_172 (dk_at dksX0_addLicence_1 0 rfl rfl)
abbrev cX0_demand : ByteArray := method_4_code
def yX0_demand : MethodName := ⟨RX0, "demand", "(LTermsDesk;III[J)I"⟩
def dkwX0_demand_1 : List UInt8 := [172]
abbrev dktX0_demand_1 : List UInt8 := dkwX0_demand_1 ++ []
def dkwX0_demand_0 : List UInt8 := [25, 4, 3, 42, 27, 28, 29, 182, 0, 17, 133, 80, 167, 0, 11, 58, 5, 4, 172, 58, 5, 5, 172, 3]
abbrev dktX0_demand_0 : List UInt8 := dkwX0_demand_0 ++ dktX0_demand_1
theorem dksX0_demand_0 : cX0_demand.data.toList.drop 0 = dktX0_demand_0 := by decide +kernel
theorem dksX0_demand_1 : cX0_demand.data.toList.drop 24 = dktX0_demand_1 := dk_seg dksX0_demand_0 24 rfl rfl
theorem dX0_demand_0 : decode cX0_demand 0 = .ok (.aload 4, 2) := dk_25 4 (dk_at dksX0_demand_0 0 rfl rfl)
theorem dX0_demand_2 : decode cX0_demand 2 = .ok (.iconst 0, 1) := dk_3 (dk_at dksX0_demand_0 2 rfl rfl)
theorem dX0_demand_3 : decode cX0_demand 3 = .ok (.aload_n 0, 1) := dk_42 (dk_at dksX0_demand_0 3 rfl rfl)
theorem dX0_demand_4 : decode cX0_demand 4 = .ok (.iload_n 1, 1) := dk_27 (dk_at dksX0_demand_0 4 rfl rfl)
theorem dX0_demand_5 : decode cX0_demand 5 = .ok (.iload_n 2, 1) := dk_28 (dk_at dksX0_demand_0 5 rfl rfl)
theorem dX0_demand_6 : decode cX0_demand 6 = .ok (.iload_n 3, 1) := dk_29 (dk_at dksX0_demand_0 6 rfl rfl)
theorem dX0_demand_7 : decode cX0_demand 7 = .ok (.invokevirtual 17, 3) := dk_182 0 17 (dk_at dksX0_demand_0 7 rfl rfl)
theorem dX0_demand_10 : decode cX0_demand 10 = .ok (.i2l, 1) := dk_133 (dk_at dksX0_demand_0 10 rfl rfl)
theorem dX0_demand_11 : decode cX0_demand 11 = .ok (.lastore, 1) := dk_80 (dk_at dksX0_demand_0 11 rfl rfl)
theorem dX0_demand_12 : decode cX0_demand 12 = .ok (.goto 11, 3) := dk_167 0 11 (dk_at dksX0_demand_0 12 rfl rfl)
theorem dX0_demand_15 : decode cX0_demand 15 = .ok (.astore 5, 2) := dk_58 5 (dk_at dksX0_demand_0 15 rfl rfl)
theorem dX0_demand_17 : decode cX0_demand 17 = .ok (.iconst 1, 1) := dk_4 (dk_at dksX0_demand_0 17 rfl rfl)
theorem dX0_demand_18 : decode cX0_demand 18 = .ok (.ireturn, 1) := dk_172 (dk_at dksX0_demand_0 18 rfl rfl)
theorem dX0_demand_19 : decode cX0_demand 19 = .ok (.astore 5, 2) := dk_58 5 (dk_at dksX0_demand_0 19 rfl rfl)
theorem dX0_demand_21 : decode cX0_demand 21 = .ok (.iconst 2, 1) := dk_5 (dk_at dksX0_demand_0 21 rfl rfl)
theorem dX0_demand_22 : decode cX0_demand 22 = .ok (.ireturn, 1) := dk_172 (dk_at dksX0_demand_0 22 rfl rfl)
theorem dX0_demand_23 : decode cX0_demand 23 = .ok (.iconst 0, 1) := dk_3 (dk_at dksX0_demand_0 23 rfl rfl)
theorem dX0_demand_24 : decode cX0_demand 24 = .ok (.ireturn, 1) := dk_172 (dk_at dksX0_demand_1 0 rfl rfl)
abbrev cX0_addFile : ByteArray := method_5_code
def yX0_addFile : MethodName := ⟨RX0, "addFile", "(LTermsDesk;III[J)I"⟩
def dkwX0_addFile_1 : List UInt8 := [58, 5, 6, 172, 3, 172]
abbrev dktX0_addFile_1 : List UInt8 := dkwX0_addFile_1 ++ []
def dkwX0_addFile_0 : List UInt8 := [25, 4, 3, 42, 27, 28, 29, 182, 0, 22, 133, 80, 167, 0, 15, 58, 5, 4, 172, 58, 5, 5, 172]
abbrev dktX0_addFile_0 : List UInt8 := dkwX0_addFile_0 ++ dktX0_addFile_1
theorem dksX0_addFile_0 : cX0_addFile.data.toList.drop 0 = dktX0_addFile_0 := by decide +kernel
theorem dksX0_addFile_1 : cX0_addFile.data.toList.drop 23 = dktX0_addFile_1 := dk_seg dksX0_addFile_0 23 rfl rfl
theorem dX0_addFile_0 : decode cX0_addFile 0 = .ok (.aload 4, 2) := dk_25 4 (dk_at dksX0_addFile_0 0 rfl rfl)
theorem dX0_addFile_2 : decode cX0_addFile 2 = .ok (.iconst 0, 1) := dk_3 (dk_at dksX0_addFile_0 2 rfl rfl)
theorem dX0_addFile_3 : decode cX0_addFile 3 = .ok (.aload_n 0, 1) := dk_42 (dk_at dksX0_addFile_0 3 rfl rfl)
theorem dX0_addFile_4 : decode cX0_addFile 4 = .ok (.iload_n 1, 1) := dk_27 (dk_at dksX0_addFile_0 4 rfl rfl)
theorem dX0_addFile_5 : decode cX0_addFile 5 = .ok (.iload_n 2, 1) := dk_28 (dk_at dksX0_addFile_0 5 rfl rfl)
theorem dX0_addFile_6 : decode cX0_addFile 6 = .ok (.iload_n 3, 1) := dk_29 (dk_at dksX0_addFile_0 6 rfl rfl)
theorem dX0_addFile_7 : decode cX0_addFile 7 = .ok (.invokevirtual 22, 3) := dk_182 0 22 (dk_at dksX0_addFile_0 7 rfl rfl)
theorem dX0_addFile_10 : decode cX0_addFile 10 = .ok (.i2l, 1) := dk_133 (dk_at dksX0_addFile_0 10 rfl rfl)
theorem dX0_addFile_11 : decode cX0_addFile 11 = .ok (.lastore, 1) := dk_80 (dk_at dksX0_addFile_0 11 rfl rfl)
theorem dX0_addFile_12 : decode cX0_addFile 12 = .ok (.goto 15, 3) := dk_167 0 15 (dk_at dksX0_addFile_0 12 rfl rfl)
theorem dX0_addFile_15 : decode cX0_addFile 15 = .ok (.astore 5, 2) := dk_58 5 (dk_at dksX0_addFile_0 15 rfl rfl)
theorem dX0_addFile_17 : decode cX0_addFile 17 = .ok (.iconst 1, 1) := dk_4 (dk_at dksX0_addFile_0 17 rfl rfl)
theorem dX0_addFile_18 : decode cX0_addFile 18 = .ok (.ireturn, 1) := dk_172 (dk_at dksX0_addFile_0 18 rfl rfl)
theorem dX0_addFile_19 : decode cX0_addFile 19 = .ok (.astore 5, 2) := dk_58 5 (dk_at dksX0_addFile_0 19 rfl rfl)
theorem dX0_addFile_21 : decode cX0_addFile 21 = .ok (.iconst 2, 1) := dk_5 (dk_at dksX0_addFile_0 21 rfl rfl)
theorem dX0_addFile_22 : decode cX0_addFile 22 = .ok (.ireturn, 1) := dk_172 (dk_at dksX0_addFile_0 22 rfl rfl)
theorem dX0_addFile_23 : decode cX0_addFile 23 = .ok (.astore 5, 2) := dk_58 5 (dk_at dksX0_addFile_1 0 rfl rfl)
theorem dX0_addFile_25 : decode cX0_addFile 25 = .ok (.iconst 3, 1) := dk_6 (dk_at dksX0_addFile_1 2 rfl rfl)
theorem dX0_addFile_26 : decode cX0_addFile 26 = .ok (.ireturn, 1) := dk_172 (dk_at dksX0_addFile_1 3 rfl rfl)
theorem dX0_addFile_27 : decode cX0_addFile 27 = .ok (.iconst 0, 1) := dk_3 (dk_at dksX0_addFile_1 4 rfl rfl)
theorem dX0_addFile_28 : decode cX0_addFile 28 = .ok (.ireturn, 1) := dk_172 (dk_at dksX0_addFile_1 5 rfl rfl)
abbrev cX0_flip : ByteArray := method_6_code
def yX0_flip : MethodName := ⟨RX0, "flip", "(LTermsDesk;I[J)I"⟩
def dkwX0_flip_0 : List UInt8 := [44, 3, 42, 27, 182, 0, 25, 133, 80, 167, 0, 9, 78, 4, 172, 78, 5, 172, 3, 172]
abbrev dktX0_flip_0 : List UInt8 := dkwX0_flip_0 ++ []
theorem dksX0_flip_0 : cX0_flip.data.toList.drop 0 = dktX0_flip_0 := by decide +kernel
theorem dX0_flip_0 : decode cX0_flip 0 = .ok (.aload_n 2, 1) := dk_44 (dk_at dksX0_flip_0 0 rfl rfl)
theorem dX0_flip_1 : decode cX0_flip 1 = .ok (.iconst 0, 1) := dk_3 (dk_at dksX0_flip_0 1 rfl rfl)
theorem dX0_flip_2 : decode cX0_flip 2 = .ok (.aload_n 0, 1) := dk_42 (dk_at dksX0_flip_0 2 rfl rfl)
theorem dX0_flip_3 : decode cX0_flip 3 = .ok (.iload_n 1, 1) := dk_27 (dk_at dksX0_flip_0 3 rfl rfl)
theorem dX0_flip_4 : decode cX0_flip 4 = .ok (.invokevirtual 25, 3) := dk_182 0 25 (dk_at dksX0_flip_0 4 rfl rfl)
theorem dX0_flip_7 : decode cX0_flip 7 = .ok (.i2l, 1) := dk_133 (dk_at dksX0_flip_0 7 rfl rfl)
theorem dX0_flip_8 : decode cX0_flip 8 = .ok (.lastore, 1) := dk_80 (dk_at dksX0_flip_0 8 rfl rfl)
theorem dX0_flip_9 : decode cX0_flip 9 = .ok (.goto 9, 3) := dk_167 0 9 (dk_at dksX0_flip_0 9 rfl rfl)
theorem dX0_flip_12 : decode cX0_flip 12 = .ok (.astore_n 3, 1) := dk_78 (dk_at dksX0_flip_0 12 rfl rfl)
theorem dX0_flip_13 : decode cX0_flip 13 = .ok (.iconst 1, 1) := dk_4 (dk_at dksX0_flip_0 13 rfl rfl)
theorem dX0_flip_14 : decode cX0_flip 14 = .ok (.ireturn, 1) := dk_172 (dk_at dksX0_flip_0 14 rfl rfl)
theorem dX0_flip_15 : decode cX0_flip 15 = .ok (.astore_n 3, 1) := dk_78 (dk_at dksX0_flip_0 15 rfl rfl)
theorem dX0_flip_16 : decode cX0_flip 16 = .ok (.iconst 2, 1) := dk_5 (dk_at dksX0_flip_0 16 rfl rfl)
theorem dX0_flip_17 : decode cX0_flip 17 = .ok (.ireturn, 1) := dk_172 (dk_at dksX0_flip_0 17 rfl rfl)
theorem dX0_flip_18 : decode cX0_flip 18 = .ok (.iconst 0, 1) := dk_3 (dk_at dksX0_flip_0 18 rfl rfl)
theorem dX0_flip_19 : decode cX0_flip 19 = .ok (.ireturn, 1) := dk_172 (dk_at dksX0_flip_0 19 rfl rfl)
abbrev cX0_addWork : ByteArray := method_7_code
def yX0_addWork : MethodName := ⟨RX0, "addWork", "(LTermsDesk;[J)I"⟩
def dkwX0_addWork_0 : List UInt8 := [43, 3, 42, 182, 0, 29, 133, 80, 167, 0, 6, 77, 4, 172, 3, 172]
abbrev dktX0_addWork_0 : List UInt8 := dkwX0_addWork_0 ++ []
theorem dksX0_addWork_0 : cX0_addWork.data.toList.drop 0 = dktX0_addWork_0 := by decide +kernel
theorem dX0_addWork_0 : decode cX0_addWork 0 = .ok (.aload_n 1, 1) := dk_43 (dk_at dksX0_addWork_0 0 rfl rfl)
theorem dX0_addWork_1 : decode cX0_addWork 1 = .ok (.iconst 0, 1) := dk_3 (dk_at dksX0_addWork_0 1 rfl rfl)
theorem dX0_addWork_2 : decode cX0_addWork 2 = .ok (.aload_n 0, 1) := dk_42 (dk_at dksX0_addWork_0 2 rfl rfl)
theorem dX0_addWork_3 : decode cX0_addWork 3 = .ok (.invokevirtual 29, 3) := dk_182 0 29 (dk_at dksX0_addWork_0 3 rfl rfl)
theorem dX0_addWork_6 : decode cX0_addWork 6 = .ok (.i2l, 1) := dk_133 (dk_at dksX0_addWork_0 6 rfl rfl)
theorem dX0_addWork_7 : decode cX0_addWork 7 = .ok (.lastore, 1) := dk_80 (dk_at dksX0_addWork_0 7 rfl rfl)
theorem dX0_addWork_8 : decode cX0_addWork 8 = .ok (.goto 6, 3) := dk_167 0 6 (dk_at dksX0_addWork_0 8 rfl rfl)
theorem dX0_addWork_11 : decode cX0_addWork 11 = .ok (.astore_n 2, 1) := dk_77 (dk_at dksX0_addWork_0 11 rfl rfl)
theorem dX0_addWork_12 : decode cX0_addWork 12 = .ok (.iconst 1, 1) := dk_4 (dk_at dksX0_addWork_0 12 rfl rfl)
theorem dX0_addWork_13 : decode cX0_addWork 13 = .ok (.ireturn, 1) := dk_172 (dk_at dksX0_addWork_0 13 rfl rfl)
theorem dX0_addWork_14 : decode cX0_addWork 14 = .ok (.iconst 0, 1) := dk_3 (dk_at dksX0_addWork_0 14 rfl rfl)
theorem dX0_addWork_15 : decode cX0_addWork 15 = .ok (.ireturn, 1) := dk_172 (dk_at dksX0_addWork_0 15 rfl rfl)
abbrev cX0_join : ByteArray := method_8_code
def yX0_join : MethodName := ⟨RX0, "join", "(LTermsDesk;IIZ[J)I"⟩
def dkwX0_join_1 : List UInt8 := [4, 172, 3, 172]
abbrev dktX0_join_1 : List UInt8 := dkwX0_join_1 ++ []
def dkwX0_join_0 : List UInt8 := [25, 4, 3, 42, 27, 28, 29, 182, 0, 33, 153, 0, 7, 10, 167, 0, 4, 9, 80, 167, 0, 7, 58, 5]
abbrev dktX0_join_0 : List UInt8 := dkwX0_join_0 ++ dktX0_join_1
theorem dksX0_join_0 : cX0_join.data.toList.drop 0 = dktX0_join_0 := by decide +kernel
theorem dksX0_join_1 : cX0_join.data.toList.drop 24 = dktX0_join_1 := dk_seg dksX0_join_0 24 rfl rfl
theorem dX0_join_0 : decode cX0_join 0 = .ok (.aload 4, 2) := dk_25 4 (dk_at dksX0_join_0 0 rfl rfl)
theorem dX0_join_2 : decode cX0_join 2 = .ok (.iconst 0, 1) := dk_3 (dk_at dksX0_join_0 2 rfl rfl)
theorem dX0_join_3 : decode cX0_join 3 = .ok (.aload_n 0, 1) := dk_42 (dk_at dksX0_join_0 3 rfl rfl)
theorem dX0_join_4 : decode cX0_join 4 = .ok (.iload_n 1, 1) := dk_27 (dk_at dksX0_join_0 4 rfl rfl)
theorem dX0_join_5 : decode cX0_join 5 = .ok (.iload_n 2, 1) := dk_28 (dk_at dksX0_join_0 5 rfl rfl)
theorem dX0_join_6 : decode cX0_join 6 = .ok (.iload_n 3, 1) := dk_29 (dk_at dksX0_join_0 6 rfl rfl)
theorem dX0_join_7 : decode cX0_join 7 = .ok (.invokevirtual 33, 3) := dk_182 0 33 (dk_at dksX0_join_0 7 rfl rfl)
theorem dX0_join_10 : decode cX0_join 10 = .ok (.ifCond .eq 7, 3) := dk_153 0 7 (dk_at dksX0_join_0 10 rfl rfl)
theorem dX0_join_13 : decode cX0_join 13 = .ok (.lconst 1, 1) := dk_10 (dk_at dksX0_join_0 13 rfl rfl)
theorem dX0_join_14 : decode cX0_join 14 = .ok (.goto 4, 3) := dk_167 0 4 (dk_at dksX0_join_0 14 rfl rfl)
theorem dX0_join_17 : decode cX0_join 17 = .ok (.lconst 0, 1) := dk_9 (dk_at dksX0_join_0 17 rfl rfl)
theorem dX0_join_18 : decode cX0_join 18 = .ok (.lastore, 1) := dk_80 (dk_at dksX0_join_0 18 rfl rfl)
theorem dX0_join_19 : decode cX0_join 19 = .ok (.goto 7, 3) := dk_167 0 7 (dk_at dksX0_join_0 19 rfl rfl)
theorem dX0_join_22 : decode cX0_join 22 = .ok (.astore 5, 2) := dk_58 5 (dk_at dksX0_join_0 22 rfl rfl)
theorem dX0_join_24 : decode cX0_join 24 = .ok (.iconst 1, 1) := dk_4 (dk_at dksX0_join_1 0 rfl rfl)
theorem dX0_join_25 : decode cX0_join 25 = .ok (.ireturn, 1) := dk_172 (dk_at dksX0_join_1 1 rfl rfl)
theorem dX0_join_26 : decode cX0_join 26 = .ok (.iconst 0, 1) := dk_3 (dk_at dksX0_join_1 2 rfl rfl)
theorem dX0_join_27 : decode cX0_join 27 = .ok (.ireturn, 1) := dk_172 (dk_at dksX0_join_1 3 rfl rfl)
abbrev cX0_link : ByteArray := method_9_code
def yX0_link : MethodName := ⟨RX0, "link", "(LTermsDesk;IIZ[J)I"⟩
def dkwX0_link_1 : List UInt8 := [4, 172, 58, 5, 5, 172, 3, 172]
abbrev dktX0_link_1 : List UInt8 := dkwX0_link_1 ++ []
def dkwX0_link_0 : List UInt8 := [25, 4, 3, 42, 27, 28, 29, 182, 0, 37, 153, 0, 7, 10, 167, 0, 4, 9, 80, 167, 0, 11, 58, 5]
abbrev dktX0_link_0 : List UInt8 := dkwX0_link_0 ++ dktX0_link_1
theorem dksX0_link_0 : cX0_link.data.toList.drop 0 = dktX0_link_0 := by decide +kernel
theorem dksX0_link_1 : cX0_link.data.toList.drop 24 = dktX0_link_1 := dk_seg dksX0_link_0 24 rfl rfl
theorem dX0_link_0 : decode cX0_link 0 = .ok (.aload 4, 2) := dk_25 4 (dk_at dksX0_link_0 0 rfl rfl)
theorem dX0_link_2 : decode cX0_link 2 = .ok (.iconst 0, 1) := dk_3 (dk_at dksX0_link_0 2 rfl rfl)
theorem dX0_link_3 : decode cX0_link 3 = .ok (.aload_n 0, 1) := dk_42 (dk_at dksX0_link_0 3 rfl rfl)
theorem dX0_link_4 : decode cX0_link 4 = .ok (.iload_n 1, 1) := dk_27 (dk_at dksX0_link_0 4 rfl rfl)
theorem dX0_link_5 : decode cX0_link 5 = .ok (.iload_n 2, 1) := dk_28 (dk_at dksX0_link_0 5 rfl rfl)
theorem dX0_link_6 : decode cX0_link 6 = .ok (.iload_n 3, 1) := dk_29 (dk_at dksX0_link_0 6 rfl rfl)
theorem dX0_link_7 : decode cX0_link 7 = .ok (.invokevirtual 37, 3) := dk_182 0 37 (dk_at dksX0_link_0 7 rfl rfl)
theorem dX0_link_10 : decode cX0_link 10 = .ok (.ifCond .eq 7, 3) := dk_153 0 7 (dk_at dksX0_link_0 10 rfl rfl)
theorem dX0_link_13 : decode cX0_link 13 = .ok (.lconst 1, 1) := dk_10 (dk_at dksX0_link_0 13 rfl rfl)
theorem dX0_link_14 : decode cX0_link 14 = .ok (.goto 4, 3) := dk_167 0 4 (dk_at dksX0_link_0 14 rfl rfl)
theorem dX0_link_17 : decode cX0_link 17 = .ok (.lconst 0, 1) := dk_9 (dk_at dksX0_link_0 17 rfl rfl)
theorem dX0_link_18 : decode cX0_link 18 = .ok (.lastore, 1) := dk_80 (dk_at dksX0_link_0 18 rfl rfl)
theorem dX0_link_19 : decode cX0_link 19 = .ok (.goto 11, 3) := dk_167 0 11 (dk_at dksX0_link_0 19 rfl rfl)
theorem dX0_link_22 : decode cX0_link 22 = .ok (.astore 5, 2) := dk_58 5 (dk_at dksX0_link_0 22 rfl rfl)
theorem dX0_link_24 : decode cX0_link 24 = .ok (.iconst 1, 1) := dk_4 (dk_at dksX0_link_1 0 rfl rfl)
theorem dX0_link_25 : decode cX0_link 25 = .ok (.ireturn, 1) := dk_172 (dk_at dksX0_link_1 1 rfl rfl)
theorem dX0_link_26 : decode cX0_link 26 = .ok (.astore 5, 2) := dk_58 5 (dk_at dksX0_link_1 2 rfl rfl)
theorem dX0_link_28 : decode cX0_link 28 = .ok (.iconst 2, 1) := dk_5 (dk_at dksX0_link_1 4 rfl rfl)
theorem dX0_link_29 : decode cX0_link 29 = .ok (.ireturn, 1) := dk_172 (dk_at dksX0_link_1 5 rfl rfl)
theorem dX0_link_30 : decode cX0_link 30 = .ok (.iconst 0, 1) := dk_3 (dk_at dksX0_link_1 6 rfl rfl)
theorem dX0_link_31 : decode cX0_link 31 = .ok (.ireturn, 1) := dk_172 (dk_at dksX0_link_1 7 rfl rfl)
abbrev cX0_clashes : ByteArray := method_10_code
def yX0_clashes : MethodName := ⟨RX0, "clashes", "(LTermsDesk;II[J)I"⟩
def dkwX0_clashes_0 : List UInt8 := [45, 3, 42, 27, 28, 182, 0, 40, 133, 80, 167, 0, 11, 58, 4, 4, 172, 58, 4, 5, 172, 3, 172]
abbrev dktX0_clashes_0 : List UInt8 := dkwX0_clashes_0 ++ []
theorem dksX0_clashes_0 : cX0_clashes.data.toList.drop 0 = dktX0_clashes_0 := by decide +kernel
theorem dX0_clashes_0 : decode cX0_clashes 0 = .ok (.aload_n 3, 1) := dk_45 (dk_at dksX0_clashes_0 0 rfl rfl)
theorem dX0_clashes_1 : decode cX0_clashes 1 = .ok (.iconst 0, 1) := dk_3 (dk_at dksX0_clashes_0 1 rfl rfl)
theorem dX0_clashes_2 : decode cX0_clashes 2 = .ok (.aload_n 0, 1) := dk_42 (dk_at dksX0_clashes_0 2 rfl rfl)
theorem dX0_clashes_3 : decode cX0_clashes 3 = .ok (.iload_n 1, 1) := dk_27 (dk_at dksX0_clashes_0 3 rfl rfl)
theorem dX0_clashes_4 : decode cX0_clashes 4 = .ok (.iload_n 2, 1) := dk_28 (dk_at dksX0_clashes_0 4 rfl rfl)
theorem dX0_clashes_5 : decode cX0_clashes 5 = .ok (.invokevirtual 40, 3) := dk_182 0 40 (dk_at dksX0_clashes_0 5 rfl rfl)
theorem dX0_clashes_8 : decode cX0_clashes 8 = .ok (.i2l, 1) := dk_133 (dk_at dksX0_clashes_0 8 rfl rfl)
theorem dX0_clashes_9 : decode cX0_clashes 9 = .ok (.lastore, 1) := dk_80 (dk_at dksX0_clashes_0 9 rfl rfl)
theorem dX0_clashes_10 : decode cX0_clashes 10 = .ok (.goto 11, 3) := dk_167 0 11 (dk_at dksX0_clashes_0 10 rfl rfl)
theorem dX0_clashes_13 : decode cX0_clashes 13 = .ok (.astore 4, 2) := dk_58 4 (dk_at dksX0_clashes_0 13 rfl rfl)
theorem dX0_clashes_15 : decode cX0_clashes 15 = .ok (.iconst 1, 1) := dk_4 (dk_at dksX0_clashes_0 15 rfl rfl)
theorem dX0_clashes_16 : decode cX0_clashes 16 = .ok (.ireturn, 1) := dk_172 (dk_at dksX0_clashes_0 16 rfl rfl)
theorem dX0_clashes_17 : decode cX0_clashes 17 = .ok (.astore 4, 2) := dk_58 4 (dk_at dksX0_clashes_0 17 rfl rfl)
theorem dX0_clashes_19 : decode cX0_clashes 19 = .ok (.iconst 2, 1) := dk_5 (dk_at dksX0_clashes_0 19 rfl rfl)
theorem dX0_clashes_20 : decode cX0_clashes 20 = .ok (.ireturn, 1) := dk_172 (dk_at dksX0_clashes_0 20 rfl rfl)
theorem dX0_clashes_21 : decode cX0_clashes 21 = .ok (.iconst 0, 1) := dk_3 (dk_at dksX0_clashes_0 21 rfl rfl)
theorem dX0_clashes_22 : decode cX0_clashes 22 = .ok (.ireturn, 1) := dk_172 (dk_at dksX0_clashes_0 22 rfl rfl)
abbrev cX0_clash : ByteArray := method_11_code
def yX0_clash : MethodName := ⟨RX0, "clash", "(LTermsDesk;IIII[J)I"⟩
def dkwX0_clash_1 : List UInt8 := [172, 58, 6, 6, 172, 3, 172]
abbrev dktX0_clash_1 : List UInt8 := dkwX0_clash_1 ++ []
def dkwX0_clash_0 : List UInt8 := [25, 5, 3, 42, 27, 28, 29, 21, 4, 182, 0, 44, 133, 80, 167, 0, 15, 58, 6, 4, 172, 58, 6, 5]
abbrev dktX0_clash_0 : List UInt8 := dkwX0_clash_0 ++ dktX0_clash_1
theorem dksX0_clash_0 : cX0_clash.data.toList.drop 0 = dktX0_clash_0 := by decide +kernel
theorem dksX0_clash_1 : cX0_clash.data.toList.drop 24 = dktX0_clash_1 := dk_seg dksX0_clash_0 24 rfl rfl
theorem dX0_clash_0 : decode cX0_clash 0 = .ok (.aload 5, 2) := dk_25 5 (dk_at dksX0_clash_0 0 rfl rfl)
theorem dX0_clash_2 : decode cX0_clash 2 = .ok (.iconst 0, 1) := dk_3 (dk_at dksX0_clash_0 2 rfl rfl)
theorem dX0_clash_3 : decode cX0_clash 3 = .ok (.aload_n 0, 1) := dk_42 (dk_at dksX0_clash_0 3 rfl rfl)
theorem dX0_clash_4 : decode cX0_clash 4 = .ok (.iload_n 1, 1) := dk_27 (dk_at dksX0_clash_0 4 rfl rfl)
theorem dX0_clash_5 : decode cX0_clash 5 = .ok (.iload_n 2, 1) := dk_28 (dk_at dksX0_clash_0 5 rfl rfl)
theorem dX0_clash_6 : decode cX0_clash 6 = .ok (.iload_n 3, 1) := dk_29 (dk_at dksX0_clash_0 6 rfl rfl)
theorem dX0_clash_7 : decode cX0_clash 7 = .ok (.iload 4, 2) := dk_21 4 (dk_at dksX0_clash_0 7 rfl rfl)
theorem dX0_clash_9 : decode cX0_clash 9 = .ok (.invokevirtual 44, 3) := dk_182 0 44 (dk_at dksX0_clash_0 9 rfl rfl)
theorem dX0_clash_12 : decode cX0_clash 12 = .ok (.i2l, 1) := dk_133 (dk_at dksX0_clash_0 12 rfl rfl)
theorem dX0_clash_13 : decode cX0_clash 13 = .ok (.lastore, 1) := dk_80 (dk_at dksX0_clash_0 13 rfl rfl)
theorem dX0_clash_14 : decode cX0_clash 14 = .ok (.goto 15, 3) := dk_167 0 15 (dk_at dksX0_clash_0 14 rfl rfl)
theorem dX0_clash_17 : decode cX0_clash 17 = .ok (.astore 6, 2) := dk_58 6 (dk_at dksX0_clash_0 17 rfl rfl)
theorem dX0_clash_19 : decode cX0_clash 19 = .ok (.iconst 1, 1) := dk_4 (dk_at dksX0_clash_0 19 rfl rfl)
theorem dX0_clash_20 : decode cX0_clash 20 = .ok (.ireturn, 1) := dk_172 (dk_at dksX0_clash_0 20 rfl rfl)
theorem dX0_clash_21 : decode cX0_clash 21 = .ok (.astore 6, 2) := dk_58 6 (dk_at dksX0_clash_0 21 rfl rfl)
theorem dX0_clash_23 : decode cX0_clash 23 = .ok (.iconst 2, 1) := dk_5 (dk_at dksX0_clash_0 23 rfl rfl)
theorem dX0_clash_24 : decode cX0_clash 24 = .ok (.ireturn, 1) := dk_172 (dk_at dksX0_clash_1 0 rfl rfl)
theorem dX0_clash_25 : decode cX0_clash 25 = .ok (.astore 6, 2) := dk_58 6 (dk_at dksX0_clash_1 1 rfl rfl)
theorem dX0_clash_27 : decode cX0_clash 27 = .ok (.iconst 3, 1) := dk_6 (dk_at dksX0_clash_1 3 rfl rfl)
theorem dX0_clash_28 : decode cX0_clash 28 = .ok (.ireturn, 1) := dk_172 (dk_at dksX0_clash_1 4 rfl rfl)
theorem dX0_clash_29 : decode cX0_clash 29 = .ok (.iconst 0, 1) := dk_3 (dk_at dksX0_clash_1 5 rfl rfl)
theorem dX0_clash_30 : decode cX0_clash 30 = .ok (.ireturn, 1) := dk_172 (dk_at dksX0_clash_1 6 rfl rfl)
abbrev cX0_due : ByteArray := method_12_code
def yX0_due : MethodName := ⟨RX0, "due", "(LTermsDesk;III[J)I"⟩
def dkwX0_due_1 : List UInt8 := [58, 5, 6, 172, 3, 172]
abbrev dktX0_due_1 : List UInt8 := dkwX0_due_1 ++ []
def dkwX0_due_0 : List UInt8 := [25, 4, 3, 42, 27, 28, 29, 182, 0, 50, 133, 80, 167, 0, 15, 58, 5, 4, 172, 58, 5, 5, 172]
abbrev dktX0_due_0 : List UInt8 := dkwX0_due_0 ++ dktX0_due_1
theorem dksX0_due_0 : cX0_due.data.toList.drop 0 = dktX0_due_0 := by decide +kernel
theorem dksX0_due_1 : cX0_due.data.toList.drop 23 = dktX0_due_1 := dk_seg dksX0_due_0 23 rfl rfl
theorem dX0_due_0 : decode cX0_due 0 = .ok (.aload 4, 2) := dk_25 4 (dk_at dksX0_due_0 0 rfl rfl)
theorem dX0_due_2 : decode cX0_due 2 = .ok (.iconst 0, 1) := dk_3 (dk_at dksX0_due_0 2 rfl rfl)
theorem dX0_due_3 : decode cX0_due 3 = .ok (.aload_n 0, 1) := dk_42 (dk_at dksX0_due_0 3 rfl rfl)
theorem dX0_due_4 : decode cX0_due 4 = .ok (.iload_n 1, 1) := dk_27 (dk_at dksX0_due_0 4 rfl rfl)
theorem dX0_due_5 : decode cX0_due 5 = .ok (.iload_n 2, 1) := dk_28 (dk_at dksX0_due_0 5 rfl rfl)
theorem dX0_due_6 : decode cX0_due 6 = .ok (.iload_n 3, 1) := dk_29 (dk_at dksX0_due_0 6 rfl rfl)
theorem dX0_due_7 : decode cX0_due 7 = .ok (.invokevirtual 50, 3) := dk_182 0 50 (dk_at dksX0_due_0 7 rfl rfl)
theorem dX0_due_10 : decode cX0_due 10 = .ok (.i2l, 1) := dk_133 (dk_at dksX0_due_0 10 rfl rfl)
theorem dX0_due_11 : decode cX0_due 11 = .ok (.lastore, 1) := dk_80 (dk_at dksX0_due_0 11 rfl rfl)
theorem dX0_due_12 : decode cX0_due 12 = .ok (.goto 15, 3) := dk_167 0 15 (dk_at dksX0_due_0 12 rfl rfl)
theorem dX0_due_15 : decode cX0_due 15 = .ok (.astore 5, 2) := dk_58 5 (dk_at dksX0_due_0 15 rfl rfl)
theorem dX0_due_17 : decode cX0_due 17 = .ok (.iconst 1, 1) := dk_4 (dk_at dksX0_due_0 17 rfl rfl)
theorem dX0_due_18 : decode cX0_due 18 = .ok (.ireturn, 1) := dk_172 (dk_at dksX0_due_0 18 rfl rfl)
theorem dX0_due_19 : decode cX0_due 19 = .ok (.astore 5, 2) := dk_58 5 (dk_at dksX0_due_0 19 rfl rfl)
theorem dX0_due_21 : decode cX0_due 21 = .ok (.iconst 2, 1) := dk_5 (dk_at dksX0_due_0 21 rfl rfl)
theorem dX0_due_22 : decode cX0_due 22 = .ok (.ireturn, 1) := dk_172 (dk_at dksX0_due_0 22 rfl rfl)
theorem dX0_due_23 : decode cX0_due 23 = .ok (.astore 5, 2) := dk_58 5 (dk_at dksX0_due_1 0 rfl rfl)
theorem dX0_due_25 : decode cX0_due 25 = .ok (.iconst 3, 1) := dk_6 (dk_at dksX0_due_1 2 rfl rfl)
theorem dX0_due_26 : decode cX0_due 26 = .ok (.ireturn, 1) := dk_172 (dk_at dksX0_due_1 3 rfl rfl)
theorem dX0_due_27 : decode cX0_due 27 = .ok (.iconst 0, 1) := dk_3 (dk_at dksX0_due_1 4 rfl rfl)
theorem dX0_due_28 : decode cX0_due 28 = .ok (.ireturn, 1) := dk_172 (dk_at dksX0_due_1 5 rfl rfl)
abbrev cX0_least : ByteArray := method_13_code
def yX0_least : MethodName := ⟨RX0, "least", "(LTermsDesk;II[J)I"⟩
def dkwX0_least_0 : List UInt8 := [45, 3, 42, 27, 28, 182, 0, 53, 133, 80, 167, 0, 11, 58, 4, 4, 172, 58, 4, 5, 172, 3, 172]
abbrev dktX0_least_0 : List UInt8 := dkwX0_least_0 ++ []
theorem dksX0_least_0 : cX0_least.data.toList.drop 0 = dktX0_least_0 := by decide +kernel
theorem dX0_least_0 : decode cX0_least 0 = .ok (.aload_n 3, 1) := dk_45 (dk_at dksX0_least_0 0 rfl rfl)
theorem dX0_least_1 : decode cX0_least 1 = .ok (.iconst 0, 1) := dk_3 (dk_at dksX0_least_0 1 rfl rfl)
theorem dX0_least_2 : decode cX0_least 2 = .ok (.aload_n 0, 1) := dk_42 (dk_at dksX0_least_0 2 rfl rfl)
theorem dX0_least_3 : decode cX0_least 3 = .ok (.iload_n 1, 1) := dk_27 (dk_at dksX0_least_0 3 rfl rfl)
theorem dX0_least_4 : decode cX0_least 4 = .ok (.iload_n 2, 1) := dk_28 (dk_at dksX0_least_0 4 rfl rfl)
theorem dX0_least_5 : decode cX0_least 5 = .ok (.invokevirtual 53, 3) := dk_182 0 53 (dk_at dksX0_least_0 5 rfl rfl)
theorem dX0_least_8 : decode cX0_least 8 = .ok (.i2l, 1) := dk_133 (dk_at dksX0_least_0 8 rfl rfl)
theorem dX0_least_9 : decode cX0_least 9 = .ok (.lastore, 1) := dk_80 (dk_at dksX0_least_0 9 rfl rfl)
theorem dX0_least_10 : decode cX0_least 10 = .ok (.goto 11, 3) := dk_167 0 11 (dk_at dksX0_least_0 10 rfl rfl)
theorem dX0_least_13 : decode cX0_least 13 = .ok (.astore 4, 2) := dk_58 4 (dk_at dksX0_least_0 13 rfl rfl)
theorem dX0_least_15 : decode cX0_least 15 = .ok (.iconst 1, 1) := dk_4 (dk_at dksX0_least_0 15 rfl rfl)
theorem dX0_least_16 : decode cX0_least 16 = .ok (.ireturn, 1) := dk_172 (dk_at dksX0_least_0 16 rfl rfl)
theorem dX0_least_17 : decode cX0_least 17 = .ok (.astore 4, 2) := dk_58 4 (dk_at dksX0_least_0 17 rfl rfl)
theorem dX0_least_19 : decode cX0_least 19 = .ok (.iconst 2, 1) := dk_5 (dk_at dksX0_least_0 19 rfl rfl)
theorem dX0_least_20 : decode cX0_least 20 = .ok (.ireturn, 1) := dk_172 (dk_at dksX0_least_0 20 rfl rfl)
theorem dX0_least_21 : decode cX0_least 21 = .ok (.iconst 0, 1) := dk_3 (dk_at dksX0_least_0 21 rfl rfl)
theorem dX0_least_22 : decode cX0_least 22 = .ok (.ireturn, 1) := dk_172 (dk_at dksX0_least_0 22 rfl rfl)
abbrev cX0_remove : ByteArray := method_14_code
def yX0_remove : MethodName := ⟨RX0, "remove", "(LTermsDesk;II[J)I"⟩
def dkwX0_remove_0 : List UInt8 := [45, 3, 42, 27, 28, 182, 0, 56, 133, 80, 167, 0, 11, 58, 4, 4, 172, 58, 4, 5, 172, 3, 172]
abbrev dktX0_remove_0 : List UInt8 := dkwX0_remove_0 ++ []
theorem dksX0_remove_0 : cX0_remove.data.toList.drop 0 = dktX0_remove_0 := by decide +kernel
theorem dX0_remove_0 : decode cX0_remove 0 = .ok (.aload_n 3, 1) := dk_45 (dk_at dksX0_remove_0 0 rfl rfl)
theorem dX0_remove_1 : decode cX0_remove 1 = .ok (.iconst 0, 1) := dk_3 (dk_at dksX0_remove_0 1 rfl rfl)
theorem dX0_remove_2 : decode cX0_remove 2 = .ok (.aload_n 0, 1) := dk_42 (dk_at dksX0_remove_0 2 rfl rfl)
theorem dX0_remove_3 : decode cX0_remove 3 = .ok (.iload_n 1, 1) := dk_27 (dk_at dksX0_remove_0 3 rfl rfl)
theorem dX0_remove_4 : decode cX0_remove 4 = .ok (.iload_n 2, 1) := dk_28 (dk_at dksX0_remove_0 4 rfl rfl)
theorem dX0_remove_5 : decode cX0_remove 5 = .ok (.invokevirtual 56, 3) := dk_182 0 56 (dk_at dksX0_remove_0 5 rfl rfl)
theorem dX0_remove_8 : decode cX0_remove 8 = .ok (.i2l, 1) := dk_133 (dk_at dksX0_remove_0 8 rfl rfl)
theorem dX0_remove_9 : decode cX0_remove 9 = .ok (.lastore, 1) := dk_80 (dk_at dksX0_remove_0 9 rfl rfl)
theorem dX0_remove_10 : decode cX0_remove 10 = .ok (.goto 11, 3) := dk_167 0 11 (dk_at dksX0_remove_0 10 rfl rfl)
theorem dX0_remove_13 : decode cX0_remove 13 = .ok (.astore 4, 2) := dk_58 4 (dk_at dksX0_remove_0 13 rfl rfl)
theorem dX0_remove_15 : decode cX0_remove 15 = .ok (.iconst 1, 1) := dk_4 (dk_at dksX0_remove_0 15 rfl rfl)
theorem dX0_remove_16 : decode cX0_remove 16 = .ok (.ireturn, 1) := dk_172 (dk_at dksX0_remove_0 16 rfl rfl)
theorem dX0_remove_17 : decode cX0_remove 17 = .ok (.astore 4, 2) := dk_58 4 (dk_at dksX0_remove_0 17 rfl rfl)
theorem dX0_remove_19 : decode cX0_remove 19 = .ok (.iconst 2, 1) := dk_5 (dk_at dksX0_remove_0 19 rfl rfl)
theorem dX0_remove_20 : decode cX0_remove 20 = .ok (.ireturn, 1) := dk_172 (dk_at dksX0_remove_0 20 rfl rfl)
theorem dX0_remove_21 : decode cX0_remove 21 = .ok (.iconst 0, 1) := dk_3 (dk_at dksX0_remove_0 21 rfl rfl)
theorem dX0_remove_22 : decode cX0_remove 22 = .ok (.ireturn, 1) := dk_172 (dk_at dksX0_remove_0 22 rfl rfl)
abbrev cX0_choice : ByteArray := method_15_code
def yX0_choice : MethodName := ⟨RX0, "choice", "(LTermsDesk;II[J)I"⟩
def dkwX0_choice_0 : List UInt8 := [45, 3, 42, 27, 28, 182, 0, 59, 133, 80, 167, 0, 11, 58, 4, 4, 172, 58, 4, 5, 172, 3, 172]
abbrev dktX0_choice_0 : List UInt8 := dkwX0_choice_0 ++ []
theorem dksX0_choice_0 : cX0_choice.data.toList.drop 0 = dktX0_choice_0 := by decide +kernel
theorem dX0_choice_0 : decode cX0_choice 0 = .ok (.aload_n 3, 1) := dk_45 (dk_at dksX0_choice_0 0 rfl rfl)
theorem dX0_choice_1 : decode cX0_choice 1 = .ok (.iconst 0, 1) := dk_3 (dk_at dksX0_choice_0 1 rfl rfl)
theorem dX0_choice_2 : decode cX0_choice 2 = .ok (.aload_n 0, 1) := dk_42 (dk_at dksX0_choice_0 2 rfl rfl)
theorem dX0_choice_3 : decode cX0_choice 3 = .ok (.iload_n 1, 1) := dk_27 (dk_at dksX0_choice_0 3 rfl rfl)
theorem dX0_choice_4 : decode cX0_choice 4 = .ok (.iload_n 2, 1) := dk_28 (dk_at dksX0_choice_0 4 rfl rfl)
theorem dX0_choice_5 : decode cX0_choice 5 = .ok (.invokevirtual 59, 3) := dk_182 0 59 (dk_at dksX0_choice_0 5 rfl rfl)
theorem dX0_choice_8 : decode cX0_choice 8 = .ok (.i2l, 1) := dk_133 (dk_at dksX0_choice_0 8 rfl rfl)
theorem dX0_choice_9 : decode cX0_choice 9 = .ok (.lastore, 1) := dk_80 (dk_at dksX0_choice_0 9 rfl rfl)
theorem dX0_choice_10 : decode cX0_choice 10 = .ok (.goto 11, 3) := dk_167 0 11 (dk_at dksX0_choice_0 10 rfl rfl)
theorem dX0_choice_13 : decode cX0_choice 13 = .ok (.astore 4, 2) := dk_58 4 (dk_at dksX0_choice_0 13 rfl rfl)
theorem dX0_choice_15 : decode cX0_choice 15 = .ok (.iconst 1, 1) := dk_4 (dk_at dksX0_choice_0 15 rfl rfl)
theorem dX0_choice_16 : decode cX0_choice 16 = .ok (.ireturn, 1) := dk_172 (dk_at dksX0_choice_0 16 rfl rfl)
theorem dX0_choice_17 : decode cX0_choice 17 = .ok (.astore 4, 2) := dk_58 4 (dk_at dksX0_choice_0 17 rfl rfl)
theorem dX0_choice_19 : decode cX0_choice 19 = .ok (.iconst 2, 1) := dk_5 (dk_at dksX0_choice_0 19 rfl rfl)
theorem dX0_choice_20 : decode cX0_choice 20 = .ok (.ireturn, 1) := dk_172 (dk_at dksX0_choice_0 20 rfl rfl)
theorem dX0_choice_21 : decode cX0_choice 21 = .ok (.iconst 0, 1) := dk_3 (dk_at dksX0_choice_0 21 rfl rfl)
theorem dX0_choice_22 : decode cX0_choice 22 = .ok (.ireturn, 1) := dk_172 (dk_at dksX0_choice_0 22 rfl rfl)
abbrev cX0_choose : ByteArray := method_16_code
def yX0_choose : MethodName := ⟨RX0, "choose", "(LTermsDesk;II[J)I"⟩
def dkwX0_choose_0 : List UInt8 := [45, 3, 42, 27, 28, 182, 0, 62, 133, 80, 167, 0, 11, 58, 4, 4, 172, 58, 4, 5, 172, 3, 172]
abbrev dktX0_choose_0 : List UInt8 := dkwX0_choose_0 ++ []
theorem dksX0_choose_0 : cX0_choose.data.toList.drop 0 = dktX0_choose_0 := by decide +kernel
theorem dX0_choose_0 : decode cX0_choose 0 = .ok (.aload_n 3, 1) := dk_45 (dk_at dksX0_choose_0 0 rfl rfl)
theorem dX0_choose_1 : decode cX0_choose 1 = .ok (.iconst 0, 1) := dk_3 (dk_at dksX0_choose_0 1 rfl rfl)
theorem dX0_choose_2 : decode cX0_choose 2 = .ok (.aload_n 0, 1) := dk_42 (dk_at dksX0_choose_0 2 rfl rfl)
theorem dX0_choose_3 : decode cX0_choose 3 = .ok (.iload_n 1, 1) := dk_27 (dk_at dksX0_choose_0 3 rfl rfl)
theorem dX0_choose_4 : decode cX0_choose 4 = .ok (.iload_n 2, 1) := dk_28 (dk_at dksX0_choose_0 4 rfl rfl)
theorem dX0_choose_5 : decode cX0_choose 5 = .ok (.invokevirtual 62, 3) := dk_182 0 62 (dk_at dksX0_choose_0 5 rfl rfl)
theorem dX0_choose_8 : decode cX0_choose 8 = .ok (.i2l, 1) := dk_133 (dk_at dksX0_choose_0 8 rfl rfl)
theorem dX0_choose_9 : decode cX0_choose 9 = .ok (.lastore, 1) := dk_80 (dk_at dksX0_choose_0 9 rfl rfl)
theorem dX0_choose_10 : decode cX0_choose 10 = .ok (.goto 11, 3) := dk_167 0 11 (dk_at dksX0_choose_0 10 rfl rfl)
theorem dX0_choose_13 : decode cX0_choose 13 = .ok (.astore 4, 2) := dk_58 4 (dk_at dksX0_choose_0 13 rfl rfl)
theorem dX0_choose_15 : decode cX0_choose 15 = .ok (.iconst 1, 1) := dk_4 (dk_at dksX0_choose_0 15 rfl rfl)
theorem dX0_choose_16 : decode cX0_choose 16 = .ok (.ireturn, 1) := dk_172 (dk_at dksX0_choose_0 16 rfl rfl)
theorem dX0_choose_17 : decode cX0_choose 17 = .ok (.astore 4, 2) := dk_58 4 (dk_at dksX0_choose_0 17 rfl rfl)
theorem dX0_choose_19 : decode cX0_choose 19 = .ok (.iconst 2, 1) := dk_5 (dk_at dksX0_choose_0 19 rfl rfl)
theorem dX0_choose_20 : decode cX0_choose 20 = .ok (.ireturn, 1) := dk_172 (dk_at dksX0_choose_0 20 rfl rfl)
theorem dX0_choose_21 : decode cX0_choose 21 = .ok (.iconst 0, 1) := dk_3 (dk_at dksX0_choose_0 21 rfl rfl)
theorem dX0_choose_22 : decode cX0_choose 22 = .ok (.ireturn, 1) := dk_172 (dk_at dksX0_choose_0 22 rfl rfl)
abbrev cX0_ship : ByteArray := method_17_code
def yX0_ship : MethodName := ⟨RX0, "ship", "(LTermsDesk;I[J)I"⟩
def dkwX0_ship_0 : List UInt8 := [44, 3, 42, 27, 182, 0, 65, 133, 80, 167, 0, 9, 78, 4, 172, 78, 5, 172, 3, 172]
abbrev dktX0_ship_0 : List UInt8 := dkwX0_ship_0 ++ []
theorem dksX0_ship_0 : cX0_ship.data.toList.drop 0 = dktX0_ship_0 := by decide +kernel
theorem dX0_ship_0 : decode cX0_ship 0 = .ok (.aload_n 2, 1) := dk_44 (dk_at dksX0_ship_0 0 rfl rfl)
theorem dX0_ship_1 : decode cX0_ship 1 = .ok (.iconst 0, 1) := dk_3 (dk_at dksX0_ship_0 1 rfl rfl)
theorem dX0_ship_2 : decode cX0_ship 2 = .ok (.aload_n 0, 1) := dk_42 (dk_at dksX0_ship_0 2 rfl rfl)
theorem dX0_ship_3 : decode cX0_ship 3 = .ok (.iload_n 1, 1) := dk_27 (dk_at dksX0_ship_0 3 rfl rfl)
theorem dX0_ship_4 : decode cX0_ship 4 = .ok (.invokevirtual 65, 3) := dk_182 0 65 (dk_at dksX0_ship_0 4 rfl rfl)
theorem dX0_ship_7 : decode cX0_ship 7 = .ok (.i2l, 1) := dk_133 (dk_at dksX0_ship_0 7 rfl rfl)
theorem dX0_ship_8 : decode cX0_ship 8 = .ok (.lastore, 1) := dk_80 (dk_at dksX0_ship_0 8 rfl rfl)
theorem dX0_ship_9 : decode cX0_ship 9 = .ok (.goto 9, 3) := dk_167 0 9 (dk_at dksX0_ship_0 9 rfl rfl)
theorem dX0_ship_12 : decode cX0_ship 12 = .ok (.astore_n 3, 1) := dk_78 (dk_at dksX0_ship_0 12 rfl rfl)
theorem dX0_ship_13 : decode cX0_ship 13 = .ok (.iconst 1, 1) := dk_4 (dk_at dksX0_ship_0 13 rfl rfl)
theorem dX0_ship_14 : decode cX0_ship 14 = .ok (.ireturn, 1) := dk_172 (dk_at dksX0_ship_0 14 rfl rfl)
theorem dX0_ship_15 : decode cX0_ship 15 = .ok (.astore_n 3, 1) := dk_78 (dk_at dksX0_ship_0 15 rfl rfl)
theorem dX0_ship_16 : decode cX0_ship 16 = .ok (.iconst 2, 1) := dk_5 (dk_at dksX0_ship_0 16 rfl rfl)
theorem dX0_ship_17 : decode cX0_ship 17 = .ok (.ireturn, 1) := dk_172 (dk_at dksX0_ship_0 17 rfl rfl)
theorem dX0_ship_18 : decode cX0_ship 18 = .ok (.iconst 0, 1) := dk_3 (dk_at dksX0_ship_0 18 rfl rfl)
theorem dX0_ship_19 : decode cX0_ship 19 = .ok (.ireturn, 1) := dk_172 (dk_at dksX0_ship_0 19 rfl rfl)
abbrev cX0_refusal : ByteArray := method_18_code
def yX0_refusal : MethodName := ⟨RX0, "refusal", "(LTermsDesk;I[J)I"⟩
def dkwX0_refusal_0 : List UInt8 := [44, 3, 42, 27, 182, 0, 70, 133, 80, 167, 0, 9, 78, 4, 172, 78, 5, 172, 3, 172]
abbrev dktX0_refusal_0 : List UInt8 := dkwX0_refusal_0 ++ []
theorem dksX0_refusal_0 : cX0_refusal.data.toList.drop 0 = dktX0_refusal_0 := by decide +kernel
theorem dX0_refusal_0 : decode cX0_refusal 0 = .ok (.aload_n 2, 1) := dk_44 (dk_at dksX0_refusal_0 0 rfl rfl)
theorem dX0_refusal_1 : decode cX0_refusal 1 = .ok (.iconst 0, 1) := dk_3 (dk_at dksX0_refusal_0 1 rfl rfl)
theorem dX0_refusal_2 : decode cX0_refusal 2 = .ok (.aload_n 0, 1) := dk_42 (dk_at dksX0_refusal_0 2 rfl rfl)
theorem dX0_refusal_3 : decode cX0_refusal 3 = .ok (.iload_n 1, 1) := dk_27 (dk_at dksX0_refusal_0 3 rfl rfl)
theorem dX0_refusal_4 : decode cX0_refusal 4 = .ok (.invokevirtual 70, 3) := dk_182 0 70 (dk_at dksX0_refusal_0 4 rfl rfl)
theorem dX0_refusal_7 : decode cX0_refusal 7 = .ok (.i2l, 1) := dk_133 (dk_at dksX0_refusal_0 7 rfl rfl)
theorem dX0_refusal_8 : decode cX0_refusal 8 = .ok (.lastore, 1) := dk_80 (dk_at dksX0_refusal_0 8 rfl rfl)
theorem dX0_refusal_9 : decode cX0_refusal 9 = .ok (.goto 9, 3) := dk_167 0 9 (dk_at dksX0_refusal_0 9 rfl rfl)
theorem dX0_refusal_12 : decode cX0_refusal 12 = .ok (.astore_n 3, 1) := dk_78 (dk_at dksX0_refusal_0 12 rfl rfl)
theorem dX0_refusal_13 : decode cX0_refusal 13 = .ok (.iconst 1, 1) := dk_4 (dk_at dksX0_refusal_0 13 rfl rfl)
theorem dX0_refusal_14 : decode cX0_refusal 14 = .ok (.ireturn, 1) := dk_172 (dk_at dksX0_refusal_0 14 rfl rfl)
theorem dX0_refusal_15 : decode cX0_refusal 15 = .ok (.astore_n 3, 1) := dk_78 (dk_at dksX0_refusal_0 15 rfl rfl)
theorem dX0_refusal_16 : decode cX0_refusal 16 = .ok (.iconst 2, 1) := dk_5 (dk_at dksX0_refusal_0 16 rfl rfl)
theorem dX0_refusal_17 : decode cX0_refusal 17 = .ok (.ireturn, 1) := dk_172 (dk_at dksX0_refusal_0 17 rfl rfl)
theorem dX0_refusal_18 : decode cX0_refusal 18 = .ok (.iconst 0, 1) := dk_3 (dk_at dksX0_refusal_0 18 rfl rfl)
theorem dX0_refusal_19 : decode cX0_refusal 19 = .ok (.ireturn, 1) := dk_172 (dk_at dksX0_refusal_0 19 rfl rfl)
abbrev cX0_notice : ByteArray := method_19_code
def yX0_notice : MethodName := ⟨RX0, "notice", "(LTermsDesk;II[J)I"⟩
def dkwX0_notice_0 : List UInt8 := [45, 3, 42, 27, 28, 182, 0, 73, 133, 80, 167, 0, 11, 58, 4, 4, 172, 58, 4, 5, 172, 3, 172]
abbrev dktX0_notice_0 : List UInt8 := dkwX0_notice_0 ++ []
theorem dksX0_notice_0 : cX0_notice.data.toList.drop 0 = dktX0_notice_0 := by decide +kernel
theorem dX0_notice_0 : decode cX0_notice 0 = .ok (.aload_n 3, 1) := dk_45 (dk_at dksX0_notice_0 0 rfl rfl)
theorem dX0_notice_1 : decode cX0_notice 1 = .ok (.iconst 0, 1) := dk_3 (dk_at dksX0_notice_0 1 rfl rfl)
theorem dX0_notice_2 : decode cX0_notice 2 = .ok (.aload_n 0, 1) := dk_42 (dk_at dksX0_notice_0 2 rfl rfl)
theorem dX0_notice_3 : decode cX0_notice 3 = .ok (.iload_n 1, 1) := dk_27 (dk_at dksX0_notice_0 3 rfl rfl)
theorem dX0_notice_4 : decode cX0_notice 4 = .ok (.iload_n 2, 1) := dk_28 (dk_at dksX0_notice_0 4 rfl rfl)
theorem dX0_notice_5 : decode cX0_notice 5 = .ok (.invokevirtual 73, 3) := dk_182 0 73 (dk_at dksX0_notice_0 5 rfl rfl)
theorem dX0_notice_8 : decode cX0_notice 8 = .ok (.i2l, 1) := dk_133 (dk_at dksX0_notice_0 8 rfl rfl)
theorem dX0_notice_9 : decode cX0_notice 9 = .ok (.lastore, 1) := dk_80 (dk_at dksX0_notice_0 9 rfl rfl)
theorem dX0_notice_10 : decode cX0_notice 10 = .ok (.goto 11, 3) := dk_167 0 11 (dk_at dksX0_notice_0 10 rfl rfl)
theorem dX0_notice_13 : decode cX0_notice 13 = .ok (.astore 4, 2) := dk_58 4 (dk_at dksX0_notice_0 13 rfl rfl)
theorem dX0_notice_15 : decode cX0_notice 15 = .ok (.iconst 1, 1) := dk_4 (dk_at dksX0_notice_0 15 rfl rfl)
theorem dX0_notice_16 : decode cX0_notice 16 = .ok (.ireturn, 1) := dk_172 (dk_at dksX0_notice_0 16 rfl rfl)
theorem dX0_notice_17 : decode cX0_notice 17 = .ok (.astore 4, 2) := dk_58 4 (dk_at dksX0_notice_0 17 rfl rfl)
theorem dX0_notice_19 : decode cX0_notice 19 = .ok (.iconst 2, 1) := dk_5 (dk_at dksX0_notice_0 19 rfl rfl)
theorem dX0_notice_20 : decode cX0_notice 20 = .ok (.ireturn, 1) := dk_172 (dk_at dksX0_notice_0 20 rfl rfl)
theorem dX0_notice_21 : decode cX0_notice 21 = .ok (.iconst 0, 1) := dk_3 (dk_at dksX0_notice_0 21 rfl rfl)
theorem dX0_notice_22 : decode cX0_notice 22 = .ok (.ireturn, 1) := dk_172 (dk_at dksX0_notice_0 22 rfl rfl)
abbrev cX0_desk : ByteArray := method_20_code
def yX0_desk : MethodName := ⟨RX0, "desk", "(LTermsDesk;I[J)I"⟩
def dkwX0_desk_0 : List UInt8 := [44, 3, 42, 27, 182, 0, 77, 133, 80, 167, 0, 6, 78, 4, 172, 3, 172]
abbrev dktX0_desk_0 : List UInt8 := dkwX0_desk_0 ++ []
theorem dksX0_desk_0 : cX0_desk.data.toList.drop 0 = dktX0_desk_0 := by decide +kernel
theorem dX0_desk_0 : decode cX0_desk 0 = .ok (.aload_n 2, 1) := dk_44 (dk_at dksX0_desk_0 0 rfl rfl)
theorem dX0_desk_1 : decode cX0_desk 1 = .ok (.iconst 0, 1) := dk_3 (dk_at dksX0_desk_0 1 rfl rfl)
theorem dX0_desk_2 : decode cX0_desk 2 = .ok (.aload_n 0, 1) := dk_42 (dk_at dksX0_desk_0 2 rfl rfl)
theorem dX0_desk_3 : decode cX0_desk 3 = .ok (.iload_n 1, 1) := dk_27 (dk_at dksX0_desk_0 3 rfl rfl)
theorem dX0_desk_4 : decode cX0_desk 4 = .ok (.invokevirtual 77, 3) := dk_182 0 77 (dk_at dksX0_desk_0 4 rfl rfl)
theorem dX0_desk_7 : decode cX0_desk 7 = .ok (.i2l, 1) := dk_133 (dk_at dksX0_desk_0 7 rfl rfl)
theorem dX0_desk_8 : decode cX0_desk 8 = .ok (.lastore, 1) := dk_80 (dk_at dksX0_desk_0 8 rfl rfl)
theorem dX0_desk_9 : decode cX0_desk 9 = .ok (.goto 6, 3) := dk_167 0 6 (dk_at dksX0_desk_0 9 rfl rfl)
theorem dX0_desk_12 : decode cX0_desk 12 = .ok (.astore_n 3, 1) := dk_78 (dk_at dksX0_desk_0 12 rfl rfl)
theorem dX0_desk_13 : decode cX0_desk 13 = .ok (.iconst 1, 1) := dk_4 (dk_at dksX0_desk_0 13 rfl rfl)
theorem dX0_desk_14 : decode cX0_desk 14 = .ok (.ireturn, 1) := dk_172 (dk_at dksX0_desk_0 14 rfl rfl)
theorem dX0_desk_15 : decode cX0_desk 15 = .ok (.iconst 0, 1) := dk_3 (dk_at dksX0_desk_0 15 rfl rfl)
theorem dX0_desk_16 : decode cX0_desk 16 = .ok (.ireturn, 1) := dk_172 (dk_at dksX0_desk_0 16 rfl rfl)
abbrev cX0_demands : ByteArray := method_21_code
def yX0_demands : MethodName := ⟨RX0, "demands", "(LTermsDesk;I[J)I"⟩
def dkwX0_demands_0 : List UInt8 := [44, 3, 42, 27, 182, 0, 80, 80, 167, 0, 6, 78, 4, 172, 3, 172]
abbrev dktX0_demands_0 : List UInt8 := dkwX0_demands_0 ++ []
theorem dksX0_demands_0 : cX0_demands.data.toList.drop 0 = dktX0_demands_0 := by decide +kernel
theorem dX0_demands_0 : decode cX0_demands 0 = .ok (.aload_n 2, 1) := dk_44 (dk_at dksX0_demands_0 0 rfl rfl)
theorem dX0_demands_1 : decode cX0_demands 1 = .ok (.iconst 0, 1) := dk_3 (dk_at dksX0_demands_0 1 rfl rfl)
theorem dX0_demands_2 : decode cX0_demands 2 = .ok (.aload_n 0, 1) := dk_42 (dk_at dksX0_demands_0 2 rfl rfl)
theorem dX0_demands_3 : decode cX0_demands 3 = .ok (.iload_n 1, 1) := dk_27 (dk_at dksX0_demands_0 3 rfl rfl)
theorem dX0_demands_4 : decode cX0_demands 4 = .ok (.invokevirtual 80, 3) := dk_182 0 80 (dk_at dksX0_demands_0 4 rfl rfl)
theorem dX0_demands_7 : decode cX0_demands 7 = .ok (.lastore, 1) := dk_80 (dk_at dksX0_demands_0 7 rfl rfl)
theorem dX0_demands_8 : decode cX0_demands 8 = .ok (.goto 6, 3) := dk_167 0 6 (dk_at dksX0_demands_0 8 rfl rfl)
theorem dX0_demands_11 : decode cX0_demands 11 = .ok (.astore_n 3, 1) := dk_78 (dk_at dksX0_demands_0 11 rfl rfl)
theorem dX0_demands_12 : decode cX0_demands 12 = .ok (.iconst 1, 1) := dk_4 (dk_at dksX0_demands_0 12 rfl rfl)
theorem dX0_demands_13 : decode cX0_demands 13 = .ok (.ireturn, 1) := dk_172 (dk_at dksX0_demands_0 13 rfl rfl)
theorem dX0_demands_14 : decode cX0_demands 14 = .ok (.iconst 0, 1) := dk_3 (dk_at dksX0_demands_0 14 rfl rfl)
theorem dX0_demands_15 : decode cX0_demands 15 = .ok (.ireturn, 1) := dk_172 (dk_at dksX0_demands_0 15 rfl rfl)
abbrev cX0_licence : ByteArray := method_22_code
def yX0_licence : MethodName := ⟨RX0, "licence", "(LTermsDesk;II[J)I"⟩
def dkwX0_licence_0 : List UInt8 := [45, 3, 42, 27, 28, 182, 0, 84, 133, 80, 167, 0, 11, 58, 4, 4, 172, 58, 4, 5, 172, 3, 172]
abbrev dktX0_licence_0 : List UInt8 := dkwX0_licence_0 ++ []
theorem dksX0_licence_0 : cX0_licence.data.toList.drop 0 = dktX0_licence_0 := by decide +kernel
theorem dX0_licence_0 : decode cX0_licence 0 = .ok (.aload_n 3, 1) := dk_45 (dk_at dksX0_licence_0 0 rfl rfl)
theorem dX0_licence_1 : decode cX0_licence 1 = .ok (.iconst 0, 1) := dk_3 (dk_at dksX0_licence_0 1 rfl rfl)
theorem dX0_licence_2 : decode cX0_licence 2 = .ok (.aload_n 0, 1) := dk_42 (dk_at dksX0_licence_0 2 rfl rfl)
theorem dX0_licence_3 : decode cX0_licence 3 = .ok (.iload_n 1, 1) := dk_27 (dk_at dksX0_licence_0 3 rfl rfl)
theorem dX0_licence_4 : decode cX0_licence 4 = .ok (.iload_n 2, 1) := dk_28 (dk_at dksX0_licence_0 4 rfl rfl)
theorem dX0_licence_5 : decode cX0_licence 5 = .ok (.invokevirtual 84, 3) := dk_182 0 84 (dk_at dksX0_licence_0 5 rfl rfl)
theorem dX0_licence_8 : decode cX0_licence 8 = .ok (.i2l, 1) := dk_133 (dk_at dksX0_licence_0 8 rfl rfl)
theorem dX0_licence_9 : decode cX0_licence 9 = .ok (.lastore, 1) := dk_80 (dk_at dksX0_licence_0 9 rfl rfl)
theorem dX0_licence_10 : decode cX0_licence 10 = .ok (.goto 11, 3) := dk_167 0 11 (dk_at dksX0_licence_0 10 rfl rfl)
theorem dX0_licence_13 : decode cX0_licence 13 = .ok (.astore 4, 2) := dk_58 4 (dk_at dksX0_licence_0 13 rfl rfl)
theorem dX0_licence_15 : decode cX0_licence 15 = .ok (.iconst 1, 1) := dk_4 (dk_at dksX0_licence_0 15 rfl rfl)
theorem dX0_licence_16 : decode cX0_licence 16 = .ok (.ireturn, 1) := dk_172 (dk_at dksX0_licence_0 16 rfl rfl)
theorem dX0_licence_17 : decode cX0_licence 17 = .ok (.astore 4, 2) := dk_58 4 (dk_at dksX0_licence_0 17 rfl rfl)
theorem dX0_licence_19 : decode cX0_licence 19 = .ok (.iconst 2, 1) := dk_5 (dk_at dksX0_licence_0 19 rfl rfl)
theorem dX0_licence_20 : decode cX0_licence 20 = .ok (.ireturn, 1) := dk_172 (dk_at dksX0_licence_0 20 rfl rfl)
theorem dX0_licence_21 : decode cX0_licence 21 = .ok (.iconst 0, 1) := dk_3 (dk_at dksX0_licence_0 21 rfl rfl)
theorem dX0_licence_22 : decode cX0_licence 22 = .ok (.ireturn, 1) := dk_172 (dk_at dksX0_licence_0 22 rfl rfl)
abbrev cX0_file : ByteArray := method_23_code
def yX0_file : MethodName := ⟨RX0, "file", "(LTermsDesk;II[J)I"⟩
def dkwX0_file_0 : List UInt8 := [45, 3, 42, 27, 28, 182, 0, 87, 133, 80, 167, 0, 11, 58, 4, 4, 172, 58, 4, 5, 172, 3, 172]
abbrev dktX0_file_0 : List UInt8 := dkwX0_file_0 ++ []
theorem dksX0_file_0 : cX0_file.data.toList.drop 0 = dktX0_file_0 := by decide +kernel
theorem dX0_file_0 : decode cX0_file 0 = .ok (.aload_n 3, 1) := dk_45 (dk_at dksX0_file_0 0 rfl rfl)
theorem dX0_file_1 : decode cX0_file 1 = .ok (.iconst 0, 1) := dk_3 (dk_at dksX0_file_0 1 rfl rfl)
theorem dX0_file_2 : decode cX0_file 2 = .ok (.aload_n 0, 1) := dk_42 (dk_at dksX0_file_0 2 rfl rfl)
theorem dX0_file_3 : decode cX0_file 3 = .ok (.iload_n 1, 1) := dk_27 (dk_at dksX0_file_0 3 rfl rfl)
theorem dX0_file_4 : decode cX0_file 4 = .ok (.iload_n 2, 1) := dk_28 (dk_at dksX0_file_0 4 rfl rfl)
theorem dX0_file_5 : decode cX0_file 5 = .ok (.invokevirtual 87, 3) := dk_182 0 87 (dk_at dksX0_file_0 5 rfl rfl)
theorem dX0_file_8 : decode cX0_file 8 = .ok (.i2l, 1) := dk_133 (dk_at dksX0_file_0 8 rfl rfl)
theorem dX0_file_9 : decode cX0_file 9 = .ok (.lastore, 1) := dk_80 (dk_at dksX0_file_0 9 rfl rfl)
theorem dX0_file_10 : decode cX0_file 10 = .ok (.goto 11, 3) := dk_167 0 11 (dk_at dksX0_file_0 10 rfl rfl)
theorem dX0_file_13 : decode cX0_file 13 = .ok (.astore 4, 2) := dk_58 4 (dk_at dksX0_file_0 13 rfl rfl)
theorem dX0_file_15 : decode cX0_file 15 = .ok (.iconst 1, 1) := dk_4 (dk_at dksX0_file_0 15 rfl rfl)
theorem dX0_file_16 : decode cX0_file 16 = .ok (.ireturn, 1) := dk_172 (dk_at dksX0_file_0 16 rfl rfl)
theorem dX0_file_17 : decode cX0_file 17 = .ok (.astore 4, 2) := dk_58 4 (dk_at dksX0_file_0 17 rfl rfl)
theorem dX0_file_19 : decode cX0_file 19 = .ok (.iconst 2, 1) := dk_5 (dk_at dksX0_file_0 19 rfl rfl)
theorem dX0_file_20 : decode cX0_file 20 = .ok (.ireturn, 1) := dk_172 (dk_at dksX0_file_0 20 rfl rfl)
theorem dX0_file_21 : decode cX0_file 21 = .ok (.iconst 0, 1) := dk_3 (dk_at dksX0_file_0 21 rfl rfl)
theorem dX0_file_22 : decode cX0_file 22 = .ok (.ireturn, 1) := dk_172 (dk_at dksX0_file_0 22 rfl rfl)
abbrev cX0_work : ByteArray := method_24_code
def yX0_work : MethodName := ⟨RX0, "work", "(LTermsDesk;II[J)I"⟩
def dkwX0_work_0 : List UInt8 := [45, 3, 42, 27, 28, 182, 0, 90, 133, 80, 167, 0, 11, 58, 4, 4, 172, 58, 4, 5, 172, 3, 172]
abbrev dktX0_work_0 : List UInt8 := dkwX0_work_0 ++ []
theorem dksX0_work_0 : cX0_work.data.toList.drop 0 = dktX0_work_0 := by decide +kernel
theorem dX0_work_0 : decode cX0_work 0 = .ok (.aload_n 3, 1) := dk_45 (dk_at dksX0_work_0 0 rfl rfl)
theorem dX0_work_1 : decode cX0_work 1 = .ok (.iconst 0, 1) := dk_3 (dk_at dksX0_work_0 1 rfl rfl)
theorem dX0_work_2 : decode cX0_work 2 = .ok (.aload_n 0, 1) := dk_42 (dk_at dksX0_work_0 2 rfl rfl)
theorem dX0_work_3 : decode cX0_work 3 = .ok (.iload_n 1, 1) := dk_27 (dk_at dksX0_work_0 3 rfl rfl)
theorem dX0_work_4 : decode cX0_work 4 = .ok (.iload_n 2, 1) := dk_28 (dk_at dksX0_work_0 4 rfl rfl)
theorem dX0_work_5 : decode cX0_work 5 = .ok (.invokevirtual 90, 3) := dk_182 0 90 (dk_at dksX0_work_0 5 rfl rfl)
theorem dX0_work_8 : decode cX0_work 8 = .ok (.i2l, 1) := dk_133 (dk_at dksX0_work_0 8 rfl rfl)
theorem dX0_work_9 : decode cX0_work 9 = .ok (.lastore, 1) := dk_80 (dk_at dksX0_work_0 9 rfl rfl)
theorem dX0_work_10 : decode cX0_work 10 = .ok (.goto 11, 3) := dk_167 0 11 (dk_at dksX0_work_0 10 rfl rfl)
theorem dX0_work_13 : decode cX0_work 13 = .ok (.astore 4, 2) := dk_58 4 (dk_at dksX0_work_0 13 rfl rfl)
theorem dX0_work_15 : decode cX0_work 15 = .ok (.iconst 1, 1) := dk_4 (dk_at dksX0_work_0 15 rfl rfl)
theorem dX0_work_16 : decode cX0_work 16 = .ok (.ireturn, 1) := dk_172 (dk_at dksX0_work_0 16 rfl rfl)
theorem dX0_work_17 : decode cX0_work 17 = .ok (.astore 4, 2) := dk_58 4 (dk_at dksX0_work_0 17 rfl rfl)
theorem dX0_work_19 : decode cX0_work 19 = .ok (.iconst 2, 1) := dk_5 (dk_at dksX0_work_0 19 rfl rfl)
theorem dX0_work_20 : decode cX0_work 20 = .ok (.ireturn, 1) := dk_172 (dk_at dksX0_work_0 20 rfl rfl)
theorem dX0_work_21 : decode cX0_work 21 = .ok (.iconst 0, 1) := dk_3 (dk_at dksX0_work_0 21 rfl rfl)
theorem dX0_work_22 : decode cX0_work 22 = .ok (.ireturn, 1) := dk_172 (dk_at dksX0_work_0 22 rfl rfl)
abbrev cX0_links : ByteArray := method_25_code
def yX0_links : MethodName := ⟨RX0, "links", "(LTermsDesk;II[J)I"⟩
def dkwX0_links_0 : List UInt8 := [45, 3, 42, 27, 28, 182, 0, 93, 133, 80, 167, 0, 11, 58, 4, 4, 172, 58, 4, 5, 172, 3, 172]
abbrev dktX0_links_0 : List UInt8 := dkwX0_links_0 ++ []
theorem dksX0_links_0 : cX0_links.data.toList.drop 0 = dktX0_links_0 := by decide +kernel
theorem dX0_links_0 : decode cX0_links 0 = .ok (.aload_n 3, 1) := dk_45 (dk_at dksX0_links_0 0 rfl rfl)
theorem dX0_links_1 : decode cX0_links 1 = .ok (.iconst 0, 1) := dk_3 (dk_at dksX0_links_0 1 rfl rfl)
theorem dX0_links_2 : decode cX0_links 2 = .ok (.aload_n 0, 1) := dk_42 (dk_at dksX0_links_0 2 rfl rfl)
theorem dX0_links_3 : decode cX0_links 3 = .ok (.iload_n 1, 1) := dk_27 (dk_at dksX0_links_0 3 rfl rfl)
theorem dX0_links_4 : decode cX0_links 4 = .ok (.iload_n 2, 1) := dk_28 (dk_at dksX0_links_0 4 rfl rfl)
theorem dX0_links_5 : decode cX0_links 5 = .ok (.invokevirtual 93, 3) := dk_182 0 93 (dk_at dksX0_links_0 5 rfl rfl)
theorem dX0_links_8 : decode cX0_links 8 = .ok (.i2l, 1) := dk_133 (dk_at dksX0_links_0 8 rfl rfl)
theorem dX0_links_9 : decode cX0_links 9 = .ok (.lastore, 1) := dk_80 (dk_at dksX0_links_0 9 rfl rfl)
theorem dX0_links_10 : decode cX0_links 10 = .ok (.goto 11, 3) := dk_167 0 11 (dk_at dksX0_links_0 10 rfl rfl)
theorem dX0_links_13 : decode cX0_links 13 = .ok (.astore 4, 2) := dk_58 4 (dk_at dksX0_links_0 13 rfl rfl)
theorem dX0_links_15 : decode cX0_links 15 = .ok (.iconst 1, 1) := dk_4 (dk_at dksX0_links_0 15 rfl rfl)
theorem dX0_links_16 : decode cX0_links 16 = .ok (.ireturn, 1) := dk_172 (dk_at dksX0_links_0 16 rfl rfl)
theorem dX0_links_17 : decode cX0_links 17 = .ok (.astore 4, 2) := dk_58 4 (dk_at dksX0_links_0 17 rfl rfl)
theorem dX0_links_19 : decode cX0_links 19 = .ok (.iconst 2, 1) := dk_5 (dk_at dksX0_links_0 19 rfl rfl)
theorem dX0_links_20 : decode cX0_links 20 = .ok (.ireturn, 1) := dk_172 (dk_at dksX0_links_0 20 rfl rfl)
theorem dX0_links_21 : decode cX0_links 21 = .ok (.iconst 0, 1) := dk_3 (dk_at dksX0_links_0 21 rfl rfl)
theorem dX0_links_22 : decode cX0_links 22 = .ok (.ireturn, 1) := dk_172 (dk_at dksX0_links_0 22 rfl rfl)
abbrev cX0_meanSize : ByteArray := method_26_code
def yX0_meanSize : MethodName := ⟨RX0, "meanSize", "(LTermsDesk;I[D)I"⟩
def dkwX0_meanSize_0 : List UInt8 := [44, 3, 42, 27, 182, 0, 96, 82, 167, 0, 9, 78, 4, 172, 78, 5, 172, 3, 172]
abbrev dktX0_meanSize_0 : List UInt8 := dkwX0_meanSize_0 ++ []
theorem dksX0_meanSize_0 : cX0_meanSize.data.toList.drop 0 = dktX0_meanSize_0 := by decide +kernel
theorem dX0_meanSize_0 : decode cX0_meanSize 0 = .ok (.aload_n 2, 1) := dk_44 (dk_at dksX0_meanSize_0 0 rfl rfl)
theorem dX0_meanSize_1 : decode cX0_meanSize 1 = .ok (.iconst 0, 1) := dk_3 (dk_at dksX0_meanSize_0 1 rfl rfl)
theorem dX0_meanSize_2 : decode cX0_meanSize 2 = .ok (.aload_n 0, 1) := dk_42 (dk_at dksX0_meanSize_0 2 rfl rfl)
theorem dX0_meanSize_3 : decode cX0_meanSize 3 = .ok (.iload_n 1, 1) := dk_27 (dk_at dksX0_meanSize_0 3 rfl rfl)
theorem dX0_meanSize_4 : decode cX0_meanSize 4 = .ok (.invokevirtual 96, 3) := dk_182 0 96 (dk_at dksX0_meanSize_0 4 rfl rfl)
theorem dX0_meanSize_7 : decode cX0_meanSize 7 = .ok (.dastore, 1) := dk_82 (dk_at dksX0_meanSize_0 7 rfl rfl)
theorem dX0_meanSize_8 : decode cX0_meanSize 8 = .ok (.goto 9, 3) := dk_167 0 9 (dk_at dksX0_meanSize_0 8 rfl rfl)
theorem dX0_meanSize_11 : decode cX0_meanSize 11 = .ok (.astore_n 3, 1) := dk_78 (dk_at dksX0_meanSize_0 11 rfl rfl)
theorem dX0_meanSize_12 : decode cX0_meanSize 12 = .ok (.iconst 1, 1) := dk_4 (dk_at dksX0_meanSize_0 12 rfl rfl)
theorem dX0_meanSize_13 : decode cX0_meanSize 13 = .ok (.ireturn, 1) := dk_172 (dk_at dksX0_meanSize_0 13 rfl rfl)
theorem dX0_meanSize_14 : decode cX0_meanSize 14 = .ok (.astore_n 3, 1) := dk_78 (dk_at dksX0_meanSize_0 14 rfl rfl)
theorem dX0_meanSize_15 : decode cX0_meanSize 15 = .ok (.iconst 2, 1) := dk_5 (dk_at dksX0_meanSize_0 15 rfl rfl)
theorem dX0_meanSize_16 : decode cX0_meanSize 16 = .ok (.ireturn, 1) := dk_172 (dk_at dksX0_meanSize_0 16 rfl rfl)
theorem dX0_meanSize_17 : decode cX0_meanSize 17 = .ok (.iconst 0, 1) := dk_3 (dk_at dksX0_meanSize_0 17 rfl rfl)
theorem dX0_meanSize_18 : decode cX0_meanSize 18 = .ok (.ireturn, 1) := dk_172 (dk_at dksX0_meanSize_0 18 rfl rfl)
abbrev cX0_share : ByteArray := method_27_code
def yX0_share : MethodName := ⟨RX0, "share", "(LTermsDesk;I[D)I"⟩
def dkwX0_share_0 : List UInt8 := [44, 3, 42, 27, 182, 0, 102, 141, 82, 167, 0, 9, 78, 4, 172, 78, 5, 172, 3, 172]
abbrev dktX0_share_0 : List UInt8 := dkwX0_share_0 ++ []
theorem dksX0_share_0 : cX0_share.data.toList.drop 0 = dktX0_share_0 := by decide +kernel
theorem dX0_share_0 : decode cX0_share 0 = .ok (.aload_n 2, 1) := dk_44 (dk_at dksX0_share_0 0 rfl rfl)
theorem dX0_share_1 : decode cX0_share 1 = .ok (.iconst 0, 1) := dk_3 (dk_at dksX0_share_0 1 rfl rfl)
theorem dX0_share_2 : decode cX0_share 2 = .ok (.aload_n 0, 1) := dk_42 (dk_at dksX0_share_0 2 rfl rfl)
theorem dX0_share_3 : decode cX0_share 3 = .ok (.iload_n 1, 1) := dk_27 (dk_at dksX0_share_0 3 rfl rfl)
theorem dX0_share_4 : decode cX0_share 4 = .ok (.invokevirtual 102, 3) := dk_182 0 102 (dk_at dksX0_share_0 4 rfl rfl)
theorem dX0_share_7 : decode cX0_share 7 = .ok (.f2d, 1) := dk_141 (dk_at dksX0_share_0 7 rfl rfl)
theorem dX0_share_8 : decode cX0_share 8 = .ok (.dastore, 1) := dk_82 (dk_at dksX0_share_0 8 rfl rfl)
theorem dX0_share_9 : decode cX0_share 9 = .ok (.goto 9, 3) := dk_167 0 9 (dk_at dksX0_share_0 9 rfl rfl)
theorem dX0_share_12 : decode cX0_share 12 = .ok (.astore_n 3, 1) := dk_78 (dk_at dksX0_share_0 12 rfl rfl)
theorem dX0_share_13 : decode cX0_share 13 = .ok (.iconst 1, 1) := dk_4 (dk_at dksX0_share_0 13 rfl rfl)
theorem dX0_share_14 : decode cX0_share 14 = .ok (.ireturn, 1) := dk_172 (dk_at dksX0_share_0 14 rfl rfl)
theorem dX0_share_15 : decode cX0_share 15 = .ok (.astore_n 3, 1) := dk_78 (dk_at dksX0_share_0 15 rfl rfl)
theorem dX0_share_16 : decode cX0_share 16 = .ok (.iconst 2, 1) := dk_5 (dk_at dksX0_share_0 16 rfl rfl)
theorem dX0_share_17 : decode cX0_share 17 = .ok (.ireturn, 1) := dk_172 (dk_at dksX0_share_0 17 rfl rfl)
theorem dX0_share_18 : decode cX0_share 18 = .ok (.iconst 0, 1) := dk_3 (dk_at dksX0_share_0 18 rfl rfl)
theorem dX0_share_19 : decode cX0_share 19 = .ok (.ireturn, 1) := dk_172 (dk_at dksX0_share_0 19 rfl rfl)
abbrev cX0_store : ByteArray := method_28_code
def yX0_store : MethodName := ⟨RX0, "store", "(LTermsDesk;I[J)I"⟩
def dkwX0_store_0 : List UInt8 := [44, 3, 42, 27, 182, 0, 106, 133, 80, 167, 0, 6, 78, 4, 172, 3, 172]
abbrev dktX0_store_0 : List UInt8 := dkwX0_store_0 ++ []
theorem dksX0_store_0 : cX0_store.data.toList.drop 0 = dktX0_store_0 := by decide +kernel
theorem dX0_store_0 : decode cX0_store 0 = .ok (.aload_n 2, 1) := dk_44 (dk_at dksX0_store_0 0 rfl rfl)
theorem dX0_store_1 : decode cX0_store 1 = .ok (.iconst 0, 1) := dk_3 (dk_at dksX0_store_0 1 rfl rfl)
theorem dX0_store_2 : decode cX0_store 2 = .ok (.aload_n 0, 1) := dk_42 (dk_at dksX0_store_0 2 rfl rfl)
theorem dX0_store_3 : decode cX0_store 3 = .ok (.iload_n 1, 1) := dk_27 (dk_at dksX0_store_0 3 rfl rfl)
theorem dX0_store_4 : decode cX0_store 4 = .ok (.invokevirtual 106, 3) := dk_182 0 106 (dk_at dksX0_store_0 4 rfl rfl)
theorem dX0_store_7 : decode cX0_store 7 = .ok (.i2l, 1) := dk_133 (dk_at dksX0_store_0 7 rfl rfl)
theorem dX0_store_8 : decode cX0_store 8 = .ok (.lastore, 1) := dk_80 (dk_at dksX0_store_0 8 rfl rfl)
theorem dX0_store_9 : decode cX0_store 9 = .ok (.goto 6, 3) := dk_167 0 6 (dk_at dksX0_store_0 9 rfl rfl)
theorem dX0_store_12 : decode cX0_store 12 = .ok (.astore_n 3, 1) := dk_78 (dk_at dksX0_store_0 12 rfl rfl)
theorem dX0_store_13 : decode cX0_store 13 = .ok (.iconst 1, 1) := dk_4 (dk_at dksX0_store_0 13 rfl rfl)
theorem dX0_store_14 : decode cX0_store 14 = .ok (.ireturn, 1) := dk_172 (dk_at dksX0_store_0 14 rfl rfl)
theorem dX0_store_15 : decode cX0_store 15 = .ok (.iconst 0, 1) := dk_3 (dk_at dksX0_store_0 15 rfl rfl)
theorem dX0_store_16 : decode cX0_store 16 = .ok (.ireturn, 1) := dk_172 (dk_at dksX0_store_0 16 rfl rfl)
abbrev cX0_mix : ByteArray := method_29_code
def yX0_mix : MethodName := ⟨RX0, "mix", "(LTermsDesk;III[J)I"⟩
def dkwX0_mix_1 : List UInt8 := [172]
abbrev dktX0_mix_1 : List UInt8 := dkwX0_mix_1 ++ []
def dkwX0_mix_0 : List UInt8 := [25, 4, 3, 42, 27, 28, 29, 182, 0, 109, 133, 80, 167, 0, 11, 58, 5, 4, 172, 58, 5, 5, 172, 3]
abbrev dktX0_mix_0 : List UInt8 := dkwX0_mix_0 ++ dktX0_mix_1
theorem dksX0_mix_0 : cX0_mix.data.toList.drop 0 = dktX0_mix_0 := by decide +kernel
theorem dksX0_mix_1 : cX0_mix.data.toList.drop 24 = dktX0_mix_1 := dk_seg dksX0_mix_0 24 rfl rfl
theorem dX0_mix_0 : decode cX0_mix 0 = .ok (.aload 4, 2) := dk_25 4 (dk_at dksX0_mix_0 0 rfl rfl)
theorem dX0_mix_2 : decode cX0_mix 2 = .ok (.iconst 0, 1) := dk_3 (dk_at dksX0_mix_0 2 rfl rfl)
theorem dX0_mix_3 : decode cX0_mix 3 = .ok (.aload_n 0, 1) := dk_42 (dk_at dksX0_mix_0 3 rfl rfl)
theorem dX0_mix_4 : decode cX0_mix 4 = .ok (.iload_n 1, 1) := dk_27 (dk_at dksX0_mix_0 4 rfl rfl)
theorem dX0_mix_5 : decode cX0_mix 5 = .ok (.iload_n 2, 1) := dk_28 (dk_at dksX0_mix_0 5 rfl rfl)
theorem dX0_mix_6 : decode cX0_mix 6 = .ok (.iload_n 3, 1) := dk_29 (dk_at dksX0_mix_0 6 rfl rfl)
theorem dX0_mix_7 : decode cX0_mix 7 = .ok (.invokevirtual 109, 3) := dk_182 0 109 (dk_at dksX0_mix_0 7 rfl rfl)
theorem dX0_mix_10 : decode cX0_mix 10 = .ok (.i2l, 1) := dk_133 (dk_at dksX0_mix_0 10 rfl rfl)
theorem dX0_mix_11 : decode cX0_mix 11 = .ok (.lastore, 1) := dk_80 (dk_at dksX0_mix_0 11 rfl rfl)
theorem dX0_mix_12 : decode cX0_mix 12 = .ok (.goto 11, 3) := dk_167 0 11 (dk_at dksX0_mix_0 12 rfl rfl)
theorem dX0_mix_15 : decode cX0_mix 15 = .ok (.astore 5, 2) := dk_58 5 (dk_at dksX0_mix_0 15 rfl rfl)
theorem dX0_mix_17 : decode cX0_mix 17 = .ok (.iconst 1, 1) := dk_4 (dk_at dksX0_mix_0 17 rfl rfl)
theorem dX0_mix_18 : decode cX0_mix 18 = .ok (.ireturn, 1) := dk_172 (dk_at dksX0_mix_0 18 rfl rfl)
theorem dX0_mix_19 : decode cX0_mix 19 = .ok (.astore 5, 2) := dk_58 5 (dk_at dksX0_mix_0 19 rfl rfl)
theorem dX0_mix_21 : decode cX0_mix 21 = .ok (.iconst 2, 1) := dk_5 (dk_at dksX0_mix_0 21 rfl rfl)
theorem dX0_mix_22 : decode cX0_mix 22 = .ok (.ireturn, 1) := dk_172 (dk_at dksX0_mix_0 22 rfl rfl)
theorem dX0_mix_23 : decode cX0_mix 23 = .ok (.iconst 0, 1) := dk_3 (dk_at dksX0_mix_0 23 rfl rfl)
theorem dX0_mix_24 : decode cX0_mix 24 = .ok (.ireturn, 1) := dk_172 (dk_at dksX0_mix_1 0 rfl rfl)
abbrev cX0_element : ByteArray := method_30_code
def yX0_element : MethodName := ⟨RX0, "element", "(LTermsDesk;II[J)I"⟩
def dkwX0_element_0 : List UInt8 := [45, 3, 42, 27, 28, 182, 0, 112, 80, 167, 0, 11, 58, 4, 4, 172, 58, 4, 5, 172, 3, 172]
abbrev dktX0_element_0 : List UInt8 := dkwX0_element_0 ++ []
theorem dksX0_element_0 : cX0_element.data.toList.drop 0 = dktX0_element_0 := by decide +kernel
theorem dX0_element_0 : decode cX0_element 0 = .ok (.aload_n 3, 1) := dk_45 (dk_at dksX0_element_0 0 rfl rfl)
theorem dX0_element_1 : decode cX0_element 1 = .ok (.iconst 0, 1) := dk_3 (dk_at dksX0_element_0 1 rfl rfl)
theorem dX0_element_2 : decode cX0_element 2 = .ok (.aload_n 0, 1) := dk_42 (dk_at dksX0_element_0 2 rfl rfl)
theorem dX0_element_3 : decode cX0_element 3 = .ok (.iload_n 1, 1) := dk_27 (dk_at dksX0_element_0 3 rfl rfl)
theorem dX0_element_4 : decode cX0_element 4 = .ok (.iload_n 2, 1) := dk_28 (dk_at dksX0_element_0 4 rfl rfl)
theorem dX0_element_5 : decode cX0_element 5 = .ok (.invokevirtual 112, 3) := dk_182 0 112 (dk_at dksX0_element_0 5 rfl rfl)
theorem dX0_element_8 : decode cX0_element 8 = .ok (.lastore, 1) := dk_80 (dk_at dksX0_element_0 8 rfl rfl)
theorem dX0_element_9 : decode cX0_element 9 = .ok (.goto 11, 3) := dk_167 0 11 (dk_at dksX0_element_0 9 rfl rfl)
theorem dX0_element_12 : decode cX0_element 12 = .ok (.astore 4, 2) := dk_58 4 (dk_at dksX0_element_0 12 rfl rfl)
theorem dX0_element_14 : decode cX0_element 14 = .ok (.iconst 1, 1) := dk_4 (dk_at dksX0_element_0 14 rfl rfl)
theorem dX0_element_15 : decode cX0_element 15 = .ok (.ireturn, 1) := dk_172 (dk_at dksX0_element_0 15 rfl rfl)
theorem dX0_element_16 : decode cX0_element 16 = .ok (.astore 4, 2) := dk_58 4 (dk_at dksX0_element_0 16 rfl rfl)
theorem dX0_element_18 : decode cX0_element 18 = .ok (.iconst 2, 1) := dk_5 (dk_at dksX0_element_0 18 rfl rfl)
theorem dX0_element_19 : decode cX0_element 19 = .ok (.ireturn, 1) := dk_172 (dk_at dksX0_element_0 19 rfl rfl)
theorem dX0_element_20 : decode cX0_element 20 = .ok (.iconst 0, 1) := dk_3 (dk_at dksX0_element_0 20 rfl rfl)
theorem dX0_element_21 : decode cX0_element 21 = .ok (.ireturn, 1) := dk_172 (dk_at dksX0_element_0 21 rfl rfl)
abbrev cX0_append : ByteArray := method_31_code
def yX0_append : MethodName := ⟨RX0, "append", "(LTermsDesk;I[J)I"⟩
def dkwX0_append_0 : List UInt8 := [44, 3, 42, 27, 182, 0, 116, 133, 80, 167, 0, 9, 78, 4, 172, 78, 5, 172, 3, 172]
abbrev dktX0_append_0 : List UInt8 := dkwX0_append_0 ++ []
theorem dksX0_append_0 : cX0_append.data.toList.drop 0 = dktX0_append_0 := by decide +kernel
theorem dX0_append_0 : decode cX0_append 0 = .ok (.aload_n 2, 1) := dk_44 (dk_at dksX0_append_0 0 rfl rfl)
theorem dX0_append_1 : decode cX0_append 1 = .ok (.iconst 0, 1) := dk_3 (dk_at dksX0_append_0 1 rfl rfl)
theorem dX0_append_2 : decode cX0_append 2 = .ok (.aload_n 0, 1) := dk_42 (dk_at dksX0_append_0 2 rfl rfl)
theorem dX0_append_3 : decode cX0_append 3 = .ok (.iload_n 1, 1) := dk_27 (dk_at dksX0_append_0 3 rfl rfl)
theorem dX0_append_4 : decode cX0_append 4 = .ok (.invokevirtual 116, 3) := dk_182 0 116 (dk_at dksX0_append_0 4 rfl rfl)
theorem dX0_append_7 : decode cX0_append 7 = .ok (.i2l, 1) := dk_133 (dk_at dksX0_append_0 7 rfl rfl)
theorem dX0_append_8 : decode cX0_append 8 = .ok (.lastore, 1) := dk_80 (dk_at dksX0_append_0 8 rfl rfl)
theorem dX0_append_9 : decode cX0_append 9 = .ok (.goto 9, 3) := dk_167 0 9 (dk_at dksX0_append_0 9 rfl rfl)
theorem dX0_append_12 : decode cX0_append 12 = .ok (.astore_n 3, 1) := dk_78 (dk_at dksX0_append_0 12 rfl rfl)
theorem dX0_append_13 : decode cX0_append 13 = .ok (.iconst 1, 1) := dk_4 (dk_at dksX0_append_0 13 rfl rfl)
theorem dX0_append_14 : decode cX0_append 14 = .ok (.ireturn, 1) := dk_172 (dk_at dksX0_append_0 14 rfl rfl)
theorem dX0_append_15 : decode cX0_append 15 = .ok (.astore_n 3, 1) := dk_78 (dk_at dksX0_append_0 15 rfl rfl)
theorem dX0_append_16 : decode cX0_append 16 = .ok (.iconst 2, 1) := dk_5 (dk_at dksX0_append_0 16 rfl rfl)
theorem dX0_append_17 : decode cX0_append 17 = .ok (.ireturn, 1) := dk_172 (dk_at dksX0_append_0 17 rfl rfl)
theorem dX0_append_18 : decode cX0_append 18 = .ok (.iconst 0, 1) := dk_3 (dk_at dksX0_append_0 18 rfl rfl)
theorem dX0_append_19 : decode cX0_append 19 = .ok (.ireturn, 1) := dk_172 (dk_at dksX0_append_0 19 rfl rfl)
abbrev cX0_read : ByteArray := method_32_code
def yX0_read : MethodName := ⟨RX0, "read", "(LTermsDesk;[J)I"⟩
def dkwX0_read_0 : List UInt8 := [43, 3, 42, 182, 0, 119, 133, 80, 167, 0, 9, 77, 4, 172, 77, 5, 172, 3, 172]
abbrev dktX0_read_0 : List UInt8 := dkwX0_read_0 ++ []
theorem dksX0_read_0 : cX0_read.data.toList.drop 0 = dktX0_read_0 := by decide +kernel
theorem dX0_read_0 : decode cX0_read 0 = .ok (.aload_n 1, 1) := dk_43 (dk_at dksX0_read_0 0 rfl rfl)
theorem dX0_read_1 : decode cX0_read 1 = .ok (.iconst 0, 1) := dk_3 (dk_at dksX0_read_0 1 rfl rfl)
theorem dX0_read_2 : decode cX0_read 2 = .ok (.aload_n 0, 1) := dk_42 (dk_at dksX0_read_0 2 rfl rfl)
theorem dX0_read_3 : decode cX0_read 3 = .ok (.invokevirtual 119, 3) := dk_182 0 119 (dk_at dksX0_read_0 3 rfl rfl)
theorem dX0_read_6 : decode cX0_read 6 = .ok (.i2l, 1) := dk_133 (dk_at dksX0_read_0 6 rfl rfl)
theorem dX0_read_7 : decode cX0_read 7 = .ok (.lastore, 1) := dk_80 (dk_at dksX0_read_0 7 rfl rfl)
theorem dX0_read_8 : decode cX0_read 8 = .ok (.goto 9, 3) := dk_167 0 9 (dk_at dksX0_read_0 8 rfl rfl)
theorem dX0_read_11 : decode cX0_read 11 = .ok (.astore_n 2, 1) := dk_77 (dk_at dksX0_read_0 11 rfl rfl)
theorem dX0_read_12 : decode cX0_read 12 = .ok (.iconst 1, 1) := dk_4 (dk_at dksX0_read_0 12 rfl rfl)
theorem dX0_read_13 : decode cX0_read 13 = .ok (.ireturn, 1) := dk_172 (dk_at dksX0_read_0 13 rfl rfl)
theorem dX0_read_14 : decode cX0_read 14 = .ok (.astore_n 2, 1) := dk_77 (dk_at dksX0_read_0 14 rfl rfl)
theorem dX0_read_15 : decode cX0_read 15 = .ok (.iconst 2, 1) := dk_5 (dk_at dksX0_read_0 15 rfl rfl)
theorem dX0_read_16 : decode cX0_read 16 = .ok (.ireturn, 1) := dk_172 (dk_at dksX0_read_0 16 rfl rfl)
theorem dX0_read_17 : decode cX0_read 17 = .ok (.iconst 0, 1) := dk_3 (dk_at dksX0_read_0 17 rfl rfl)
theorem dX0_read_18 : decode cX0_read 18 = .ok (.ireturn, 1) := dk_172 (dk_at dksX0_read_0 18 rfl rfl)
abbrev cX0_errorPosition : ByteArray := method_33_code
def yX0_errorPosition : MethodName := ⟨RX0, "errorPosition", "(LTermsDesk;[J)I"⟩
def dkwX0_errorPosition_0 : List UInt8 := [43, 3, 42, 182, 0, 122, 133, 80, 167, 0, 6, 77, 4, 172, 3, 172]
abbrev dktX0_errorPosition_0 : List UInt8 := dkwX0_errorPosition_0 ++ []
theorem dksX0_errorPosition_0 : cX0_errorPosition.data.toList.drop 0 = dktX0_errorPosition_0 := by decide +kernel
theorem dX0_errorPosition_0 : decode cX0_errorPosition 0 = .ok (.aload_n 1, 1) := dk_43 (dk_at dksX0_errorPosition_0 0 rfl rfl)
theorem dX0_errorPosition_1 : decode cX0_errorPosition 1 = .ok (.iconst 0, 1) := dk_3 (dk_at dksX0_errorPosition_0 1 rfl rfl)
theorem dX0_errorPosition_2 : decode cX0_errorPosition 2 = .ok (.aload_n 0, 1) := dk_42 (dk_at dksX0_errorPosition_0 2 rfl rfl)
theorem dX0_errorPosition_3 : decode cX0_errorPosition 3 = .ok (.invokevirtual 122, 3) := dk_182 0 122 (dk_at dksX0_errorPosition_0 3 rfl rfl)
theorem dX0_errorPosition_6 : decode cX0_errorPosition 6 = .ok (.i2l, 1) := dk_133 (dk_at dksX0_errorPosition_0 6 rfl rfl)
theorem dX0_errorPosition_7 : decode cX0_errorPosition 7 = .ok (.lastore, 1) := dk_80 (dk_at dksX0_errorPosition_0 7 rfl rfl)
theorem dX0_errorPosition_8 : decode cX0_errorPosition 8 = .ok (.goto 6, 3) := dk_167 0 6 (dk_at dksX0_errorPosition_0 8 rfl rfl)
theorem dX0_errorPosition_11 : decode cX0_errorPosition 11 = .ok (.astore_n 2, 1) := dk_77 (dk_at dksX0_errorPosition_0 11 rfl rfl)
theorem dX0_errorPosition_12 : decode cX0_errorPosition 12 = .ok (.iconst 1, 1) := dk_4 (dk_at dksX0_errorPosition_0 12 rfl rfl)
theorem dX0_errorPosition_13 : decode cX0_errorPosition 13 = .ok (.ireturn, 1) := dk_172 (dk_at dksX0_errorPosition_0 13 rfl rfl)
theorem dX0_errorPosition_14 : decode cX0_errorPosition 14 = .ok (.iconst 0, 1) := dk_3 (dk_at dksX0_errorPosition_0 14 rfl rfl)
theorem dX0_errorPosition_15 : decode cX0_errorPosition 15 = .ok (.ireturn, 1) := dk_172 (dk_at dksX0_errorPosition_0 15 rfl rfl)
abbrev cX0_refusedItem : ByteArray := method_34_code
def yX0_refusedItem : MethodName := ⟨RX0, "refusedItem", "(LTermsDesk;[J)I"⟩
def dkwX0_refusedItem_0 : List UInt8 := [43, 3, 42, 182, 0, 125, 133, 80, 167, 0, 6, 77, 4, 172, 3, 172]
abbrev dktX0_refusedItem_0 : List UInt8 := dkwX0_refusedItem_0 ++ []
theorem dksX0_refusedItem_0 : cX0_refusedItem.data.toList.drop 0 = dktX0_refusedItem_0 := by decide +kernel
theorem dX0_refusedItem_0 : decode cX0_refusedItem 0 = .ok (.aload_n 1, 1) := dk_43 (dk_at dksX0_refusedItem_0 0 rfl rfl)
theorem dX0_refusedItem_1 : decode cX0_refusedItem 1 = .ok (.iconst 0, 1) := dk_3 (dk_at dksX0_refusedItem_0 1 rfl rfl)
theorem dX0_refusedItem_2 : decode cX0_refusedItem 2 = .ok (.aload_n 0, 1) := dk_42 (dk_at dksX0_refusedItem_0 2 rfl rfl)
theorem dX0_refusedItem_3 : decode cX0_refusedItem 3 = .ok (.invokevirtual 125, 3) := dk_182 0 125 (dk_at dksX0_refusedItem_0 3 rfl rfl)
theorem dX0_refusedItem_6 : decode cX0_refusedItem 6 = .ok (.i2l, 1) := dk_133 (dk_at dksX0_refusedItem_0 6 rfl rfl)
theorem dX0_refusedItem_7 : decode cX0_refusedItem 7 = .ok (.lastore, 1) := dk_80 (dk_at dksX0_refusedItem_0 7 rfl rfl)
theorem dX0_refusedItem_8 : decode cX0_refusedItem 8 = .ok (.goto 6, 3) := dk_167 0 6 (dk_at dksX0_refusedItem_0 8 rfl rfl)
theorem dX0_refusedItem_11 : decode cX0_refusedItem 11 = .ok (.astore_n 2, 1) := dk_77 (dk_at dksX0_refusedItem_0 11 rfl rfl)
theorem dX0_refusedItem_12 : decode cX0_refusedItem 12 = .ok (.iconst 1, 1) := dk_4 (dk_at dksX0_refusedItem_0 12 rfl rfl)
theorem dX0_refusedItem_13 : decode cX0_refusedItem 13 = .ok (.ireturn, 1) := dk_172 (dk_at dksX0_refusedItem_0 13 rfl rfl)
theorem dX0_refusedItem_14 : decode cX0_refusedItem 14 = .ok (.iconst 0, 1) := dk_3 (dk_at dksX0_refusedItem_0 14 rfl rfl)
theorem dX0_refusedItem_15 : decode cX0_refusedItem 15 = .ok (.ireturn, 1) := dk_172 (dk_at dksX0_refusedItem_0 15 rfl rfl)
abbrev cX0_undo : ByteArray := method_35_code
def yX0_undo : MethodName := ⟨RX0, "undo", "(LTermsDesk;[J)I"⟩
def dkwX0_undo_0 : List UInt8 := [43, 3, 42, 182, 0, 128, 133, 80, 167, 0, 6, 77, 4, 172, 3, 172]
abbrev dktX0_undo_0 : List UInt8 := dkwX0_undo_0 ++ []
theorem dksX0_undo_0 : cX0_undo.data.toList.drop 0 = dktX0_undo_0 := by decide +kernel
theorem dX0_undo_0 : decode cX0_undo 0 = .ok (.aload_n 1, 1) := dk_43 (dk_at dksX0_undo_0 0 rfl rfl)
theorem dX0_undo_1 : decode cX0_undo 1 = .ok (.iconst 0, 1) := dk_3 (dk_at dksX0_undo_0 1 rfl rfl)
theorem dX0_undo_2 : decode cX0_undo 2 = .ok (.aload_n 0, 1) := dk_42 (dk_at dksX0_undo_0 2 rfl rfl)
theorem dX0_undo_3 : decode cX0_undo 3 = .ok (.invokevirtual 128, 3) := dk_182 0 128 (dk_at dksX0_undo_0 3 rfl rfl)
theorem dX0_undo_6 : decode cX0_undo 6 = .ok (.i2l, 1) := dk_133 (dk_at dksX0_undo_0 6 rfl rfl)
theorem dX0_undo_7 : decode cX0_undo 7 = .ok (.lastore, 1) := dk_80 (dk_at dksX0_undo_0 7 rfl rfl)
theorem dX0_undo_8 : decode cX0_undo 8 = .ok (.goto 6, 3) := dk_167 0 6 (dk_at dksX0_undo_0 8 rfl rfl)
theorem dX0_undo_11 : decode cX0_undo 11 = .ok (.astore_n 2, 1) := dk_77 (dk_at dksX0_undo_0 11 rfl rfl)
theorem dX0_undo_12 : decode cX0_undo 12 = .ok (.iconst 1, 1) := dk_4 (dk_at dksX0_undo_0 12 rfl rfl)
theorem dX0_undo_13 : decode cX0_undo 13 = .ok (.ireturn, 1) := dk_172 (dk_at dksX0_undo_0 13 rfl rfl)
theorem dX0_undo_14 : decode cX0_undo 14 = .ok (.iconst 0, 1) := dk_3 (dk_at dksX0_undo_0 14 rfl rfl)
theorem dX0_undo_15 : decode cX0_undo 15 = .ok (.ireturn, 1) := dk_172 (dk_at dksX0_undo_0 15 rfl rfl)
abbrev cX0_restore : ByteArray := method_36_code
def yX0_restore : MethodName := ⟨RX0, "restore", "(LTermsDesk;[J)I"⟩
def dkwX0_restore_0 : List UInt8 := [43, 3, 42, 182, 0, 131, 133, 80, 167, 0, 6, 77, 4, 172, 3, 172]
abbrev dktX0_restore_0 : List UInt8 := dkwX0_restore_0 ++ []
theorem dksX0_restore_0 : cX0_restore.data.toList.drop 0 = dktX0_restore_0 := by decide +kernel
theorem dX0_restore_0 : decode cX0_restore 0 = .ok (.aload_n 1, 1) := dk_43 (dk_at dksX0_restore_0 0 rfl rfl)
theorem dX0_restore_1 : decode cX0_restore 1 = .ok (.iconst 0, 1) := dk_3 (dk_at dksX0_restore_0 1 rfl rfl)
theorem dX0_restore_2 : decode cX0_restore 2 = .ok (.aload_n 0, 1) := dk_42 (dk_at dksX0_restore_0 2 rfl rfl)
theorem dX0_restore_3 : decode cX0_restore 3 = .ok (.invokevirtual 131, 3) := dk_182 0 131 (dk_at dksX0_restore_0 3 rfl rfl)
theorem dX0_restore_6 : decode cX0_restore 6 = .ok (.i2l, 1) := dk_133 (dk_at dksX0_restore_0 6 rfl rfl)
theorem dX0_restore_7 : decode cX0_restore 7 = .ok (.lastore, 1) := dk_80 (dk_at dksX0_restore_0 7 rfl rfl)
theorem dX0_restore_8 : decode cX0_restore 8 = .ok (.goto 6, 3) := dk_167 0 6 (dk_at dksX0_restore_0 8 rfl rfl)
theorem dX0_restore_11 : decode cX0_restore 11 = .ok (.astore_n 2, 1) := dk_77 (dk_at dksX0_restore_0 11 rfl rfl)
theorem dX0_restore_12 : decode cX0_restore 12 = .ok (.iconst 1, 1) := dk_4 (dk_at dksX0_restore_0 12 rfl rfl)
theorem dX0_restore_13 : decode cX0_restore 13 = .ok (.ireturn, 1) := dk_172 (dk_at dksX0_restore_0 13 rfl rfl)
theorem dX0_restore_14 : decode cX0_restore 14 = .ok (.iconst 0, 1) := dk_3 (dk_at dksX0_restore_0 14 rfl rfl)
theorem dX0_restore_15 : decode cX0_restore 15 = .ok (.ireturn, 1) := dk_172 (dk_at dksX0_restore_0 15 rfl rfl)
theorem q68 : (Jvm.Cond.initialized "TermsDeskLaw") ∈ lw_all := lw_g (lw_at lw_m1 0 rfl) rfl
theorem q116 : (Jvm.Cond.classLink "TermsDeskLaw" (8 : Nat) "TermsDesk") ∈ lw_all := lw_g (lw_at lw_m1 48 rfl) rfl
theorem q118 : (Jvm.Cond.methodLink "TermsDeskLaw" (134 : Nat) ({ cls := "TermsDesk", name := "<init>", desc := "()V" } : Jvm.MethodName)) ∈ lw_all := lw_g (lw_at lw_m1 50 rfl) rfl
theorem q266 : (Jvm.Cond.methodLink "TermsDeskLaw" (138 : Nat) ({ cls := "TermsDesk", name := "clear", desc := "()I" } : Jvm.MethodName)) ∈ lw_all := lw_g (lw_at lw_m1 198 rfl) rfl
theorem q285 : (Jvm.Cond.methodLink "TermsDeskLaw" (229 : Nat) ({ cls := "TermsDesk", name := "isConsistent", desc := "()Z" } : Jvm.MethodName)) ∈ lw_all := lw_g (lw_at lw_m1 217 rfl) rfl
theorem q571 : (Jvm.Cond.methodLink "TermsDeskLaw" (258 : Nat) ({ cls := "TermsDesk", name := "snapshot", desc := "()I" } : Jvm.MethodName)) ∈ lw_all := lw_g (lw_at lw_m3 23 rfl) rfl
theorem q836 : (Jvm.Cond.methodLink "TermsDeskLaw" (142 : Nat) ({ cls := "TermsDeskLaw", name := "addLicence", desc := "(LTermsDesk;III[J)I" } : Jvm.MethodName)) ∈ lw_all := lw_g (lw_at lw_m4 48 rfl) rfl
theorem q837 : (Jvm.Cond.static ({ cls := "TermsDeskLaw", name := "addLicence", desc := "(LTermsDesk;III[J)I" } : Jvm.MethodName)) ∈ lw_all := lw_g (lw_at lw_m4 49 rfl) rfl
theorem q838 : (Jvm.Cond.codeWith ({ cls := "TermsDeskLaw", name := "addLicence", desc := "(LTermsDesk;III[J)I" } : Jvm.MethodName) method_3_code (6 : Nat) (Option.some Jvm.ClassFile.FieldType.int) [((0 : Nat), (12 : Nat), (15 : Nat), (13 : Nat)), ((0 : Nat), (12 : Nat), (19 : Nat), (15 : Nat))]) ∈ lw_all := lw_g (lw_at lw_m4 50 rfl) rfl
theorem q839 : (Jvm.Cond.classLink "TermsDeskLaw" (13 : Nat) "java/lang/IllegalArgumentException") ∈ lw_all := lw_g (lw_at lw_m4 51 rfl) rfl
theorem q840 : (Jvm.Cond.classLink "TermsDeskLaw" (15 : Nat) "java/lang/IllegalStateException") ∈ lw_all := lw_g (lw_at lw_m4 52 rfl) rfl
theorem q841 : (Jvm.Cond.methodLink "TermsDeskLaw" (7 : Nat) ({ cls := "TermsDesk", name := "addLicence", desc := "(III)I" } : Jvm.MethodName)) ∈ lw_all := lw_g (lw_at lw_m4 53 rfl) rfl
theorem q928 : (Jvm.Cond.methodLink "TermsDeskLaw" (151 : Nat) ({ cls := "TermsDeskLaw", name := "demand", desc := "(LTermsDesk;III[J)I" } : Jvm.MethodName)) ∈ lw_all := lw_g (lw_at lw_m4 140 rfl) rfl
theorem q929 : (Jvm.Cond.static ({ cls := "TermsDeskLaw", name := "demand", desc := "(LTermsDesk;III[J)I" } : Jvm.MethodName)) ∈ lw_all := lw_g (lw_at lw_m4 141 rfl) rfl
theorem q930 : (Jvm.Cond.codeWith ({ cls := "TermsDeskLaw", name := "demand", desc := "(LTermsDesk;III[J)I" } : Jvm.MethodName) method_4_code (6 : Nat) (Option.some Jvm.ClassFile.FieldType.int) [((0 : Nat), (12 : Nat), (15 : Nat), (20 : Nat)), ((0 : Nat), (12 : Nat), (19 : Nat), (13 : Nat))]) ∈ lw_all := lw_g (lw_at lw_m4 142 rfl) rfl
theorem q931 : (Jvm.Cond.classLink "TermsDeskLaw" (20 : Nat) "java/lang/IndexOutOfBoundsException") ∈ lw_all := lw_g (lw_at lw_m4 143 rfl) rfl
theorem q955 : (Jvm.Cond.methodLink "TermsDeskLaw" (17 : Nat) ({ cls := "TermsDesk", name := "demand", desc := "(III)I" } : Jvm.MethodName)) ∈ lw_all := lw_g (lw_at lw_m4 167 rfl) rfl
theorem q973 : (Jvm.Cond.methodLink "TermsDeskLaw" (154 : Nat) ({ cls := "TermsDeskLaw", name := "addFile", desc := "(LTermsDesk;III[J)I" } : Jvm.MethodName)) ∈ lw_all := lw_g (lw_at lw_m4 185 rfl) rfl
theorem q974 : (Jvm.Cond.static ({ cls := "TermsDeskLaw", name := "addFile", desc := "(LTermsDesk;III[J)I" } : Jvm.MethodName)) ∈ lw_all := lw_g (lw_at lw_m4 186 rfl) rfl
theorem q975 : (Jvm.Cond.codeWith ({ cls := "TermsDeskLaw", name := "addFile", desc := "(LTermsDesk;III[J)I" } : Jvm.MethodName) method_5_code (6 : Nat) (Option.some Jvm.ClassFile.FieldType.int) [((0 : Nat), (12 : Nat), (15 : Nat), (20 : Nat)), ((0 : Nat), (12 : Nat), (19 : Nat), (13 : Nat)), ((0 : Nat), (12 : Nat), (23 : Nat), (15 : Nat))]) ∈ lw_all := lw_g (lw_at lw_m4 187 rfl) rfl
theorem q976 : (Jvm.Cond.methodLink "TermsDeskLaw" (22 : Nat) ({ cls := "TermsDesk", name := "addFile", desc := "(III)I" } : Jvm.MethodName)) ∈ lw_all := lw_g (lw_at lw_m4 188 rfl) rfl
theorem q987 : (Jvm.Cond.methodLink "TermsDeskLaw" (157 : Nat) ({ cls := "TermsDeskLaw", name := "flip", desc := "(LTermsDesk;I[J)I" } : Jvm.MethodName)) ∈ lw_all := lw_g (lw_at lw_m4 199 rfl) rfl
theorem q988 : (Jvm.Cond.static ({ cls := "TermsDeskLaw", name := "flip", desc := "(LTermsDesk;I[J)I" } : Jvm.MethodName)) ∈ lw_all := lw_g (lw_at lw_m4 200 rfl) rfl
theorem q989 : (Jvm.Cond.codeWith ({ cls := "TermsDeskLaw", name := "flip", desc := "(LTermsDesk;I[J)I" } : Jvm.MethodName) method_6_code (4 : Nat) (Option.some Jvm.ClassFile.FieldType.int) [((0 : Nat), (9 : Nat), (12 : Nat), (20 : Nat)), ((0 : Nat), (9 : Nat), (15 : Nat), (15 : Nat))]) ∈ lw_all := lw_g (lw_at lw_m4 201 rfl) rfl
theorem q990 : (Jvm.Cond.methodLink "TermsDeskLaw" (25 : Nat) ({ cls := "TermsDesk", name := "flip", desc := "(I)I" } : Jvm.MethodName)) ∈ lw_all := lw_g (lw_at lw_m4 202 rfl) rfl
theorem q1008 : (Jvm.Cond.methodLink "TermsDeskLaw" (161 : Nat) ({ cls := "TermsDeskLaw", name := "addWork", desc := "(LTermsDesk;[J)I" } : Jvm.MethodName)) ∈ lw_all := lw_g (lw_at lw_m4 220 rfl) rfl
theorem q1009 : (Jvm.Cond.static ({ cls := "TermsDeskLaw", name := "addWork", desc := "(LTermsDesk;[J)I" } : Jvm.MethodName)) ∈ lw_all := lw_g (lw_at lw_m4 221 rfl) rfl
theorem q1010 : (Jvm.Cond.codeWith ({ cls := "TermsDeskLaw", name := "addWork", desc := "(LTermsDesk;[J)I" } : Jvm.MethodName) method_7_code (3 : Nat) (Option.some Jvm.ClassFile.FieldType.int) [((0 : Nat), (8 : Nat), (11 : Nat), (15 : Nat))]) ∈ lw_all := lw_g (lw_at lw_m4 222 rfl) rfl
theorem q1011 : (Jvm.Cond.methodLink "TermsDeskLaw" (29 : Nat) ({ cls := "TermsDesk", name := "addWork", desc := "()I" } : Jvm.MethodName)) ∈ lw_all := lw_g (lw_at lw_m4 223 rfl) rfl
theorem q1017 : (Jvm.Cond.methodLink "TermsDeskLaw" (165 : Nat) ({ cls := "TermsDeskLaw", name := "join", desc := "(LTermsDesk;IIZ[J)I" } : Jvm.MethodName)) ∈ lw_all := lw_g (lw_at lw_m4 229 rfl) rfl
theorem q1018 : (Jvm.Cond.static ({ cls := "TermsDeskLaw", name := "join", desc := "(LTermsDesk;IIZ[J)I" } : Jvm.MethodName)) ∈ lw_all := lw_g (lw_at lw_m4 230 rfl) rfl
theorem q1019 : (Jvm.Cond.codeWith ({ cls := "TermsDeskLaw", name := "join", desc := "(LTermsDesk;IIZ[J)I" } : Jvm.MethodName) method_8_code (6 : Nat) (Option.some Jvm.ClassFile.FieldType.int) [((0 : Nat), (19 : Nat), (22 : Nat), (20 : Nat))]) ∈ lw_all := lw_g (lw_at lw_m4 231 rfl) rfl
theorem q1020 : (Jvm.Cond.methodLink "TermsDeskLaw" (33 : Nat) ({ cls := "TermsDesk", name := "join", desc := "(IIZ)Z" } : Jvm.MethodName)) ∈ lw_all := lw_g (lw_at lw_m4 232 rfl) rfl
theorem q1032 : (Jvm.Cond.methodLink "TermsDeskLaw" (169 : Nat) ({ cls := "TermsDeskLaw", name := "link", desc := "(LTermsDesk;IIZ[J)I" } : Jvm.MethodName)) ∈ lw_all := lw_g (lw_at lw_m5 4 rfl) rfl
theorem q1033 : (Jvm.Cond.static ({ cls := "TermsDeskLaw", name := "link", desc := "(LTermsDesk;IIZ[J)I" } : Jvm.MethodName)) ∈ lw_all := lw_g (lw_at lw_m5 5 rfl) rfl
theorem q1034 : (Jvm.Cond.codeWith ({ cls := "TermsDeskLaw", name := "link", desc := "(LTermsDesk;IIZ[J)I" } : Jvm.MethodName) method_9_code (6 : Nat) (Option.some Jvm.ClassFile.FieldType.int) [((0 : Nat), (19 : Nat), (22 : Nat), (20 : Nat)), ((0 : Nat), (19 : Nat), (26 : Nat), (13 : Nat))]) ∈ lw_all := lw_g (lw_at lw_m5 6 rfl) rfl
theorem q1035 : (Jvm.Cond.methodLink "TermsDeskLaw" (37 : Nat) ({ cls := "TermsDesk", name := "link", desc := "(IIZ)Z" } : Jvm.MethodName)) ∈ lw_all := lw_g (lw_at lw_m5 7 rfl) rfl
theorem q1044 : (Jvm.Cond.methodLink "TermsDeskLaw" (172 : Nat) ({ cls := "TermsDeskLaw", name := "clashes", desc := "(LTermsDesk;II[J)I" } : Jvm.MethodName)) ∈ lw_all := lw_g (lw_at lw_m5 16 rfl) rfl
theorem q1045 : (Jvm.Cond.static ({ cls := "TermsDeskLaw", name := "clashes", desc := "(LTermsDesk;II[J)I" } : Jvm.MethodName)) ∈ lw_all := lw_g (lw_at lw_m5 17 rfl) rfl
theorem q1046 : (Jvm.Cond.codeWith ({ cls := "TermsDeskLaw", name := "clashes", desc := "(LTermsDesk;II[J)I" } : Jvm.MethodName) method_10_code (5 : Nat) (Option.some Jvm.ClassFile.FieldType.int) [((0 : Nat), (10 : Nat), (13 : Nat), (20 : Nat)), ((0 : Nat), (10 : Nat), (17 : Nat), (13 : Nat))]) ∈ lw_all := lw_g (lw_at lw_m5 18 rfl) rfl
theorem q1047 : (Jvm.Cond.methodLink "TermsDeskLaw" (40 : Nat) ({ cls := "TermsDesk", name := "clashes", desc := "(II)I" } : Jvm.MethodName)) ∈ lw_all := lw_g (lw_at lw_m5 19 rfl) rfl
theorem q1064 : (Jvm.Cond.methodLink "TermsDeskLaw" (176 : Nat) ({ cls := "TermsDeskLaw", name := "clash", desc := "(LTermsDesk;IIII[J)I" } : Jvm.MethodName)) ∈ lw_all := lw_g (lw_at lw_m5 36 rfl) rfl
theorem q1065 : (Jvm.Cond.static ({ cls := "TermsDeskLaw", name := "clash", desc := "(LTermsDesk;IIII[J)I" } : Jvm.MethodName)) ∈ lw_all := lw_g (lw_at lw_m5 37 rfl) rfl
theorem q1066 : (Jvm.Cond.codeWith ({ cls := "TermsDeskLaw", name := "clash", desc := "(LTermsDesk;IIII[J)I" } : Jvm.MethodName) method_11_code (7 : Nat) (Option.some Jvm.ClassFile.FieldType.int) [((0 : Nat), (14 : Nat), (17 : Nat), (20 : Nat)), ((0 : Nat), (14 : Nat), (21 : Nat), (13 : Nat)), ((0 : Nat), (14 : Nat), (25 : Nat), (48 : Nat))]) ∈ lw_all := lw_g (lw_at lw_m5 38 rfl) rfl
theorem q1067 : (Jvm.Cond.classLink "TermsDeskLaw" (48 : Nat) "java/util/NoSuchElementException") ∈ lw_all := lw_g (lw_at lw_m5 39 rfl) rfl
theorem q1068 : (Jvm.Cond.methodLink "TermsDeskLaw" (44 : Nat) ({ cls := "TermsDesk", name := "clash", desc := "(IIII)I" } : Jvm.MethodName)) ∈ lw_all := lw_g (lw_at lw_m5 40 rfl) rfl
theorem q1086 : (Jvm.Cond.methodLink "TermsDeskLaw" (180 : Nat) ({ cls := "TermsDeskLaw", name := "due", desc := "(LTermsDesk;III[J)I" } : Jvm.MethodName)) ∈ lw_all := lw_g (lw_at lw_m5 58 rfl) rfl
theorem q1087 : (Jvm.Cond.static ({ cls := "TermsDeskLaw", name := "due", desc := "(LTermsDesk;III[J)I" } : Jvm.MethodName)) ∈ lw_all := lw_g (lw_at lw_m5 59 rfl) rfl
theorem q1088 : (Jvm.Cond.codeWith ({ cls := "TermsDeskLaw", name := "due", desc := "(LTermsDesk;III[J)I" } : Jvm.MethodName) method_12_code (6 : Nat) (Option.some Jvm.ClassFile.FieldType.int) [((0 : Nat), (12 : Nat), (15 : Nat), (20 : Nat)), ((0 : Nat), (12 : Nat), (19 : Nat), (13 : Nat)), ((0 : Nat), (12 : Nat), (23 : Nat), (48 : Nat))]) ∈ lw_all := lw_g (lw_at lw_m5 60 rfl) rfl
theorem q1089 : (Jvm.Cond.methodLink "TermsDeskLaw" (50 : Nat) ({ cls := "TermsDesk", name := "due", desc := "(III)I" } : Jvm.MethodName)) ∈ lw_all := lw_g (lw_at lw_m5 61 rfl) rfl
theorem q1101 : (Jvm.Cond.methodLink "TermsDeskLaw" (183 : Nat) ({ cls := "TermsDeskLaw", name := "least", desc := "(LTermsDesk;II[J)I" } : Jvm.MethodName)) ∈ lw_all := lw_g (lw_at lw_m5 73 rfl) rfl
theorem q1102 : (Jvm.Cond.static ({ cls := "TermsDeskLaw", name := "least", desc := "(LTermsDesk;II[J)I" } : Jvm.MethodName)) ∈ lw_all := lw_g (lw_at lw_m5 74 rfl) rfl
theorem q1103 : (Jvm.Cond.codeWith ({ cls := "TermsDeskLaw", name := "least", desc := "(LTermsDesk;II[J)I" } : Jvm.MethodName) method_13_code (5 : Nat) (Option.some Jvm.ClassFile.FieldType.int) [((0 : Nat), (10 : Nat), (13 : Nat), (20 : Nat)), ((0 : Nat), (10 : Nat), (17 : Nat), (13 : Nat))]) ∈ lw_all := lw_g (lw_at lw_m5 75 rfl) rfl
theorem q1104 : (Jvm.Cond.methodLink "TermsDeskLaw" (53 : Nat) ({ cls := "TermsDesk", name := "least", desc := "(II)I" } : Jvm.MethodName)) ∈ lw_all := lw_g (lw_at lw_m5 76 rfl) rfl
theorem q1109 : (Jvm.Cond.methodLink "TermsDeskLaw" (186 : Nat) ({ cls := "TermsDeskLaw", name := "remove", desc := "(LTermsDesk;II[J)I" } : Jvm.MethodName)) ∈ lw_all := lw_g (lw_at lw_m5 81 rfl) rfl
theorem q1110 : (Jvm.Cond.static ({ cls := "TermsDeskLaw", name := "remove", desc := "(LTermsDesk;II[J)I" } : Jvm.MethodName)) ∈ lw_all := lw_g (lw_at lw_m5 82 rfl) rfl
theorem q1111 : (Jvm.Cond.codeWith ({ cls := "TermsDeskLaw", name := "remove", desc := "(LTermsDesk;II[J)I" } : Jvm.MethodName) method_14_code (5 : Nat) (Option.some Jvm.ClassFile.FieldType.int) [((0 : Nat), (10 : Nat), (13 : Nat), (20 : Nat)), ((0 : Nat), (10 : Nat), (17 : Nat), (13 : Nat))]) ∈ lw_all := lw_g (lw_at lw_m5 83 rfl) rfl
theorem q1112 : (Jvm.Cond.methodLink "TermsDeskLaw" (56 : Nat) ({ cls := "TermsDesk", name := "remove", desc := "(II)I" } : Jvm.MethodName)) ∈ lw_all := lw_g (lw_at lw_m5 84 rfl) rfl
theorem q1121 : (Jvm.Cond.methodLink "TermsDeskLaw" (189 : Nat) ({ cls := "TermsDeskLaw", name := "choice", desc := "(LTermsDesk;II[J)I" } : Jvm.MethodName)) ∈ lw_all := lw_g (lw_at lw_m5 93 rfl) rfl
theorem q1122 : (Jvm.Cond.static ({ cls := "TermsDeskLaw", name := "choice", desc := "(LTermsDesk;II[J)I" } : Jvm.MethodName)) ∈ lw_all := lw_g (lw_at lw_m5 94 rfl) rfl
theorem q1123 : (Jvm.Cond.codeWith ({ cls := "TermsDeskLaw", name := "choice", desc := "(LTermsDesk;II[J)I" } : Jvm.MethodName) method_15_code (5 : Nat) (Option.some Jvm.ClassFile.FieldType.int) [((0 : Nat), (10 : Nat), (13 : Nat), (20 : Nat)), ((0 : Nat), (10 : Nat), (17 : Nat), (13 : Nat))]) ∈ lw_all := lw_g (lw_at lw_m5 95 rfl) rfl
theorem q1124 : (Jvm.Cond.methodLink "TermsDeskLaw" (59 : Nat) ({ cls := "TermsDesk", name := "choice", desc := "(II)I" } : Jvm.MethodName)) ∈ lw_all := lw_g (lw_at lw_m5 96 rfl) rfl
theorem q1401 : (Jvm.Cond.methodLink "TermsDeskLaw" (192 : Nat) ({ cls := "TermsDeskLaw", name := "choose", desc := "(LTermsDesk;II[J)I" } : Jvm.MethodName)) ∈ lw_all := lw_g (lw_at lw_m6 133 rfl) rfl
theorem q1402 : (Jvm.Cond.static ({ cls := "TermsDeskLaw", name := "choose", desc := "(LTermsDesk;II[J)I" } : Jvm.MethodName)) ∈ lw_all := lw_g (lw_at lw_m6 134 rfl) rfl
theorem q1403 : (Jvm.Cond.codeWith ({ cls := "TermsDeskLaw", name := "choose", desc := "(LTermsDesk;II[J)I" } : Jvm.MethodName) method_16_code (5 : Nat) (Option.some Jvm.ClassFile.FieldType.int) [((0 : Nat), (10 : Nat), (13 : Nat), (20 : Nat)), ((0 : Nat), (10 : Nat), (17 : Nat), (13 : Nat))]) ∈ lw_all := lw_g (lw_at lw_m6 135 rfl) rfl
theorem q1404 : (Jvm.Cond.methodLink "TermsDeskLaw" (62 : Nat) ({ cls := "TermsDesk", name := "choose", desc := "(II)I" } : Jvm.MethodName)) ∈ lw_all := lw_g (lw_at lw_m6 136 rfl) rfl
theorem q1413 : (Jvm.Cond.methodLink "TermsDeskLaw" (195 : Nat) ({ cls := "TermsDeskLaw", name := "ship", desc := "(LTermsDesk;I[J)I" } : Jvm.MethodName)) ∈ lw_all := lw_g (lw_at lw_m6 145 rfl) rfl
theorem q1414 : (Jvm.Cond.static ({ cls := "TermsDeskLaw", name := "ship", desc := "(LTermsDesk;I[J)I" } : Jvm.MethodName)) ∈ lw_all := lw_g (lw_at lw_m6 146 rfl) rfl
theorem q1415 : (Jvm.Cond.codeWith ({ cls := "TermsDeskLaw", name := "ship", desc := "(LTermsDesk;I[J)I" } : Jvm.MethodName) method_17_code (4 : Nat) (Option.some Jvm.ClassFile.FieldType.int) [((0 : Nat), (9 : Nat), (12 : Nat), (20 : Nat)), ((0 : Nat), (9 : Nat), (15 : Nat), (68 : Nat))]) ∈ lw_all := lw_g (lw_at lw_m6 147 rfl) rfl
theorem q1416 : (Jvm.Cond.classLink "TermsDeskLaw" (68 : Nat) "java/lang/UnsupportedOperationException") ∈ lw_all := lw_g (lw_at lw_m6 148 rfl) rfl
theorem q1417 : (Jvm.Cond.methodLink "TermsDeskLaw" (65 : Nat) ({ cls := "TermsDesk", name := "ship", desc := "(I)I" } : Jvm.MethodName)) ∈ lw_all := lw_g (lw_at lw_m6 149 rfl) rfl
theorem q1666 : (Jvm.Cond.methodLink "TermsDeskLaw" (198 : Nat) ({ cls := "TermsDeskLaw", name := "refusal", desc := "(LTermsDesk;I[J)I" } : Jvm.MethodName)) ∈ lw_all := lw_g (lw_at lw_m7 158 rfl) rfl
theorem q1667 : (Jvm.Cond.static ({ cls := "TermsDeskLaw", name := "refusal", desc := "(LTermsDesk;I[J)I" } : Jvm.MethodName)) ∈ lw_all := lw_g (lw_at lw_m7 159 rfl) rfl
theorem q1668 : (Jvm.Cond.codeWith ({ cls := "TermsDeskLaw", name := "refusal", desc := "(LTermsDesk;I[J)I" } : Jvm.MethodName) method_18_code (4 : Nat) (Option.some Jvm.ClassFile.FieldType.int) [((0 : Nat), (9 : Nat), (12 : Nat), (15 : Nat)), ((0 : Nat), (9 : Nat), (15 : Nat), (48 : Nat))]) ∈ lw_all := lw_g (lw_at lw_m7 160 rfl) rfl
theorem q1669 : (Jvm.Cond.methodLink "TermsDeskLaw" (70 : Nat) ({ cls := "TermsDesk", name := "refusal", desc := "(I)I" } : Jvm.MethodName)) ∈ lw_all := lw_g (lw_at lw_m7 161 rfl) rfl
theorem q1675 : (Jvm.Cond.methodLink "TermsDeskLaw" (201 : Nat) ({ cls := "TermsDeskLaw", name := "notice", desc := "(LTermsDesk;II[J)I" } : Jvm.MethodName)) ∈ lw_all := lw_g (lw_at lw_m7 167 rfl) rfl
theorem q1676 : (Jvm.Cond.static ({ cls := "TermsDeskLaw", name := "notice", desc := "(LTermsDesk;II[J)I" } : Jvm.MethodName)) ∈ lw_all := lw_g (lw_at lw_m7 168 rfl) rfl
theorem q1677 : (Jvm.Cond.codeWith ({ cls := "TermsDeskLaw", name := "notice", desc := "(LTermsDesk;II[J)I" } : Jvm.MethodName) method_19_code (5 : Nat) (Option.some Jvm.ClassFile.FieldType.int) [((0 : Nat), (10 : Nat), (13 : Nat), (20 : Nat)), ((0 : Nat), (10 : Nat), (17 : Nat), (48 : Nat))]) ∈ lw_all := lw_g (lw_at lw_m7 169 rfl) rfl
theorem q1678 : (Jvm.Cond.methodLink "TermsDeskLaw" (73 : Nat) ({ cls := "TermsDesk", name := "notice", desc := "(II)C" } : Jvm.MethodName)) ∈ lw_all := lw_g (lw_at lw_m7 170 rfl) rfl
theorem q1705 : (Jvm.Cond.methodLink "TermsDeskLaw" (204 : Nat) ({ cls := "TermsDeskLaw", name := "desk", desc := "(LTermsDesk;I[J)I" } : Jvm.MethodName)) ∈ lw_all := lw_g (lw_at lw_m7 197 rfl) rfl
theorem q1706 : (Jvm.Cond.static ({ cls := "TermsDeskLaw", name := "desk", desc := "(LTermsDesk;I[J)I" } : Jvm.MethodName)) ∈ lw_all := lw_g (lw_at lw_m7 198 rfl) rfl
theorem q1707 : (Jvm.Cond.codeWith ({ cls := "TermsDeskLaw", name := "desk", desc := "(LTermsDesk;I[J)I" } : Jvm.MethodName) method_20_code (4 : Nat) (Option.some Jvm.ClassFile.FieldType.int) [((0 : Nat), (9 : Nat), (12 : Nat), (13 : Nat))]) ∈ lw_all := lw_g (lw_at lw_m7 199 rfl) rfl
theorem q1708 : (Jvm.Cond.methodLink "TermsDeskLaw" (77 : Nat) ({ cls := "TermsDesk", name := "desk", desc := "(I)I" } : Jvm.MethodName)) ∈ lw_all := lw_g (lw_at lw_m7 200 rfl) rfl
theorem q1726 : (Jvm.Cond.methodLink "TermsDeskLaw" (207 : Nat) ({ cls := "TermsDeskLaw", name := "demands", desc := "(LTermsDesk;I[J)I" } : Jvm.MethodName)) ∈ lw_all := lw_g (lw_at lw_m7 218 rfl) rfl
theorem q1727 : (Jvm.Cond.static ({ cls := "TermsDeskLaw", name := "demands", desc := "(LTermsDesk;I[J)I" } : Jvm.MethodName)) ∈ lw_all := lw_g (lw_at lw_m7 219 rfl) rfl
theorem q1728 : (Jvm.Cond.codeWith ({ cls := "TermsDeskLaw", name := "demands", desc := "(LTermsDesk;I[J)I" } : Jvm.MethodName) method_21_code (4 : Nat) (Option.some Jvm.ClassFile.FieldType.int) [((0 : Nat), (8 : Nat), (11 : Nat), (20 : Nat))]) ∈ lw_all := lw_g (lw_at lw_m7 220 rfl) rfl
theorem q1729 : (Jvm.Cond.methodLink "TermsDeskLaw" (80 : Nat) ({ cls := "TermsDesk", name := "demands", desc := "(I)J" } : Jvm.MethodName)) ∈ lw_all := lw_g (lw_at lw_m7 221 rfl) rfl
theorem q1733 : (Jvm.Cond.methodLink "TermsDeskLaw" (210 : Nat) ({ cls := "TermsDeskLaw", name := "licence", desc := "(LTermsDesk;II[J)I" } : Jvm.MethodName)) ∈ lw_all := lw_g (lw_at lw_m7 225 rfl) rfl
theorem q1734 : (Jvm.Cond.static ({ cls := "TermsDeskLaw", name := "licence", desc := "(LTermsDesk;II[J)I" } : Jvm.MethodName)) ∈ lw_all := lw_g (lw_at lw_m7 226 rfl) rfl
theorem q1735 : (Jvm.Cond.codeWith ({ cls := "TermsDeskLaw", name := "licence", desc := "(LTermsDesk;II[J)I" } : Jvm.MethodName) method_22_code (5 : Nat) (Option.some Jvm.ClassFile.FieldType.int) [((0 : Nat), (10 : Nat), (13 : Nat), (20 : Nat)), ((0 : Nat), (10 : Nat), (17 : Nat), (13 : Nat))]) ∈ lw_all := lw_g (lw_at lw_m7 227 rfl) rfl
theorem q1736 : (Jvm.Cond.methodLink "TermsDeskLaw" (84 : Nat) ({ cls := "TermsDesk", name := "licence", desc := "(II)I" } : Jvm.MethodName)) ∈ lw_all := lw_g (lw_at lw_m7 228 rfl) rfl
theorem q1747 : (Jvm.Cond.methodLink "TermsDeskLaw" (213 : Nat) ({ cls := "TermsDeskLaw", name := "file", desc := "(LTermsDesk;II[J)I" } : Jvm.MethodName)) ∈ lw_all := lw_g (lw_at lw_m7 239 rfl) rfl
theorem q1748 : (Jvm.Cond.static ({ cls := "TermsDeskLaw", name := "file", desc := "(LTermsDesk;II[J)I" } : Jvm.MethodName)) ∈ lw_all := lw_g (lw_at lw_m8 0 rfl) rfl
theorem q1749 : (Jvm.Cond.codeWith ({ cls := "TermsDeskLaw", name := "file", desc := "(LTermsDesk;II[J)I" } : Jvm.MethodName) method_23_code (5 : Nat) (Option.some Jvm.ClassFile.FieldType.int) [((0 : Nat), (10 : Nat), (13 : Nat), (20 : Nat)), ((0 : Nat), (10 : Nat), (17 : Nat), (13 : Nat))]) ∈ lw_all := lw_g (lw_at lw_m8 1 rfl) rfl
theorem q1750 : (Jvm.Cond.methodLink "TermsDeskLaw" (87 : Nat) ({ cls := "TermsDesk", name := "file", desc := "(II)I" } : Jvm.MethodName)) ∈ lw_all := lw_g (lw_at lw_m8 2 rfl) rfl
theorem q1759 : (Jvm.Cond.methodLink "TermsDeskLaw" (216 : Nat) ({ cls := "TermsDeskLaw", name := "work", desc := "(LTermsDesk;II[J)I" } : Jvm.MethodName)) ∈ lw_all := lw_g (lw_at lw_m8 11 rfl) rfl
theorem q1760 : (Jvm.Cond.static ({ cls := "TermsDeskLaw", name := "work", desc := "(LTermsDesk;II[J)I" } : Jvm.MethodName)) ∈ lw_all := lw_g (lw_at lw_m8 12 rfl) rfl
theorem q1761 : (Jvm.Cond.codeWith ({ cls := "TermsDeskLaw", name := "work", desc := "(LTermsDesk;II[J)I" } : Jvm.MethodName) method_24_code (5 : Nat) (Option.some Jvm.ClassFile.FieldType.int) [((0 : Nat), (10 : Nat), (13 : Nat), (20 : Nat)), ((0 : Nat), (10 : Nat), (17 : Nat), (13 : Nat))]) ∈ lw_all := lw_g (lw_at lw_m8 13 rfl) rfl
theorem q1762 : (Jvm.Cond.methodLink "TermsDeskLaw" (90 : Nat) ({ cls := "TermsDesk", name := "work", desc := "(II)I" } : Jvm.MethodName)) ∈ lw_all := lw_g (lw_at lw_m8 14 rfl) rfl
theorem q1769 : (Jvm.Cond.methodLink "TermsDeskLaw" (219 : Nat) ({ cls := "TermsDeskLaw", name := "links", desc := "(LTermsDesk;II[J)I" } : Jvm.MethodName)) ∈ lw_all := lw_g (lw_at lw_m8 21 rfl) rfl
theorem q1770 : (Jvm.Cond.static ({ cls := "TermsDeskLaw", name := "links", desc := "(LTermsDesk;II[J)I" } : Jvm.MethodName)) ∈ lw_all := lw_g (lw_at lw_m8 22 rfl) rfl
theorem q1771 : (Jvm.Cond.codeWith ({ cls := "TermsDeskLaw", name := "links", desc := "(LTermsDesk;II[J)I" } : Jvm.MethodName) method_25_code (5 : Nat) (Option.some Jvm.ClassFile.FieldType.int) [((0 : Nat), (10 : Nat), (13 : Nat), (20 : Nat)), ((0 : Nat), (10 : Nat), (17 : Nat), (48 : Nat))]) ∈ lw_all := lw_g (lw_at lw_m8 23 rfl) rfl
theorem q1772 : (Jvm.Cond.methodLink "TermsDeskLaw" (93 : Nat) ({ cls := "TermsDesk", name := "links", desc := "(II)I" } : Jvm.MethodName)) ∈ lw_all := lw_g (lw_at lw_m8 24 rfl) rfl
theorem q1780 : (Jvm.Cond.methodLink "TermsDeskLaw" (222 : Nat) ({ cls := "TermsDeskLaw", name := "meanSize", desc := "(LTermsDesk;I[D)I" } : Jvm.MethodName)) ∈ lw_all := lw_g (lw_at lw_m8 32 rfl) rfl
theorem q1781 : (Jvm.Cond.static ({ cls := "TermsDeskLaw", name := "meanSize", desc := "(LTermsDesk;I[D)I" } : Jvm.MethodName)) ∈ lw_all := lw_g (lw_at lw_m8 33 rfl) rfl
theorem q1782 : (Jvm.Cond.codeWith ({ cls := "TermsDeskLaw", name := "meanSize", desc := "(LTermsDesk;I[D)I" } : Jvm.MethodName) method_26_code (4 : Nat) (Option.some Jvm.ClassFile.FieldType.int) [((0 : Nat), (8 : Nat), (11 : Nat), (20 : Nat)), ((0 : Nat), (8 : Nat), (14 : Nat), (100 : Nat))]) ∈ lw_all := lw_g (lw_at lw_m8 34 rfl) rfl
theorem q1783 : (Jvm.Cond.classLink "TermsDeskLaw" (100 : Nat) "java/lang/ArithmeticException") ∈ lw_all := lw_g (lw_at lw_m8 35 rfl) rfl
theorem q1797 : (Jvm.Cond.methodLink "TermsDeskLaw" (96 : Nat) ({ cls := "TermsDesk", name := "meanSize", desc := "(I)D" } : Jvm.MethodName)) ∈ lw_all := lw_g (lw_at lw_m8 49 rfl) rfl
theorem q1810 : (Jvm.Cond.methodLink "TermsDeskLaw" (226 : Nat) ({ cls := "TermsDeskLaw", name := "share", desc := "(LTermsDesk;I[D)I" } : Jvm.MethodName)) ∈ lw_all := lw_g (lw_at lw_m8 62 rfl) rfl
theorem q1811 : (Jvm.Cond.static ({ cls := "TermsDeskLaw", name := "share", desc := "(LTermsDesk;I[D)I" } : Jvm.MethodName)) ∈ lw_all := lw_g (lw_at lw_m8 63 rfl) rfl
theorem q1812 : (Jvm.Cond.codeWith ({ cls := "TermsDeskLaw", name := "share", desc := "(LTermsDesk;I[D)I" } : Jvm.MethodName) method_27_code (4 : Nat) (Option.some Jvm.ClassFile.FieldType.int) [((0 : Nat), (9 : Nat), (12 : Nat), (20 : Nat)), ((0 : Nat), (9 : Nat), (15 : Nat), (100 : Nat))]) ∈ lw_all := lw_g (lw_at lw_m8 64 rfl) rfl
theorem q1813 : (Jvm.Cond.methodLink "TermsDeskLaw" (102 : Nat) ({ cls := "TermsDesk", name := "share", desc := "(I)F" } : Jvm.MethodName)) ∈ lw_all := lw_g (lw_at lw_m8 65 rfl) rfl
theorem q1822 : (Jvm.Cond.methodLink "TermsDeskLaw" (234 : Nat) ({ cls := "TermsDeskLaw", name := "store", desc := "(LTermsDesk;I[J)I" } : Jvm.MethodName)) ∈ lw_all := lw_g (lw_at lw_m8 74 rfl) rfl
theorem q1823 : (Jvm.Cond.static ({ cls := "TermsDeskLaw", name := "store", desc := "(LTermsDesk;I[J)I" } : Jvm.MethodName)) ∈ lw_all := lw_g (lw_at lw_m8 75 rfl) rfl
theorem q1824 : (Jvm.Cond.codeWith ({ cls := "TermsDeskLaw", name := "store", desc := "(LTermsDesk;I[J)I" } : Jvm.MethodName) method_28_code (4 : Nat) (Option.some Jvm.ClassFile.FieldType.int) [((0 : Nat), (9 : Nat), (12 : Nat), (20 : Nat))]) ∈ lw_all := lw_g (lw_at lw_m8 76 rfl) rfl
theorem q1825 : (Jvm.Cond.methodLink "TermsDeskLaw" (106 : Nat) ({ cls := "TermsDesk", name := "store", desc := "(I)I" } : Jvm.MethodName)) ∈ lw_all := lw_g (lw_at lw_m8 77 rfl) rfl
theorem q1838 : (Jvm.Cond.methodLink "TermsDeskLaw" (237 : Nat) ({ cls := "TermsDeskLaw", name := "mix", desc := "(LTermsDesk;III[J)I" } : Jvm.MethodName)) ∈ lw_all := lw_g (lw_at lw_m8 90 rfl) rfl
theorem q1839 : (Jvm.Cond.static ({ cls := "TermsDeskLaw", name := "mix", desc := "(LTermsDesk;III[J)I" } : Jvm.MethodName)) ∈ lw_all := lw_g (lw_at lw_m8 91 rfl) rfl
theorem q1840 : (Jvm.Cond.codeWith ({ cls := "TermsDeskLaw", name := "mix", desc := "(LTermsDesk;III[J)I" } : Jvm.MethodName) method_29_code (6 : Nat) (Option.some Jvm.ClassFile.FieldType.int) [((0 : Nat), (12 : Nat), (15 : Nat), (20 : Nat)), ((0 : Nat), (12 : Nat), (19 : Nat), (13 : Nat))]) ∈ lw_all := lw_g (lw_at lw_m8 92 rfl) rfl
theorem q1841 : (Jvm.Cond.methodLink "TermsDeskLaw" (109 : Nat) ({ cls := "TermsDesk", name := "mix", desc := "(III)I" } : Jvm.MethodName)) ∈ lw_all := lw_g (lw_at lw_m8 93 rfl) rfl
theorem q1847 : (Jvm.Cond.methodLink "TermsDeskLaw" (240 : Nat) ({ cls := "TermsDeskLaw", name := "element", desc := "(LTermsDesk;II[J)I" } : Jvm.MethodName)) ∈ lw_all := lw_g (lw_at lw_m8 99 rfl) rfl
theorem q1848 : (Jvm.Cond.static ({ cls := "TermsDeskLaw", name := "element", desc := "(LTermsDesk;II[J)I" } : Jvm.MethodName)) ∈ lw_all := lw_g (lw_at lw_m8 100 rfl) rfl
theorem q1849 : (Jvm.Cond.codeWith ({ cls := "TermsDeskLaw", name := "element", desc := "(LTermsDesk;II[J)I" } : Jvm.MethodName) method_30_code (5 : Nat) (Option.some Jvm.ClassFile.FieldType.int) [((0 : Nat), (9 : Nat), (12 : Nat), (20 : Nat)), ((0 : Nat), (9 : Nat), (16 : Nat), (48 : Nat))]) ∈ lw_all := lw_g (lw_at lw_m8 101 rfl) rfl
theorem q1850 : (Jvm.Cond.methodLink "TermsDeskLaw" (112 : Nat) ({ cls := "TermsDesk", name := "element", desc := "(II)J" } : Jvm.MethodName)) ∈ lw_all := lw_g (lw_at lw_m8 102 rfl) rfl
theorem q1854 : (Jvm.Cond.methodLink "TermsDeskLaw" (243 : Nat) ({ cls := "TermsDeskLaw", name := "append", desc := "(LTermsDesk;I[J)I" } : Jvm.MethodName)) ∈ lw_all := lw_g (lw_at lw_m8 106 rfl) rfl
theorem q1855 : (Jvm.Cond.static ({ cls := "TermsDeskLaw", name := "append", desc := "(LTermsDesk;I[J)I" } : Jvm.MethodName)) ∈ lw_all := lw_g (lw_at lw_m8 107 rfl) rfl
theorem q1856 : (Jvm.Cond.codeWith ({ cls := "TermsDeskLaw", name := "append", desc := "(LTermsDesk;I[J)I" } : Jvm.MethodName) method_31_code (4 : Nat) (Option.some Jvm.ClassFile.FieldType.int) [((0 : Nat), (9 : Nat), (12 : Nat), (13 : Nat)), ((0 : Nat), (9 : Nat), (15 : Nat), (15 : Nat))]) ∈ lw_all := lw_g (lw_at lw_m8 108 rfl) rfl
theorem q1857 : (Jvm.Cond.methodLink "TermsDeskLaw" (116 : Nat) ({ cls := "TermsDesk", name := "append", desc := "(I)I" } : Jvm.MethodName)) ∈ lw_all := lw_g (lw_at lw_m8 109 rfl) rfl
theorem q1876 : (Jvm.Cond.methodLink "TermsDeskLaw" (246 : Nat) ({ cls := "TermsDeskLaw", name := "read", desc := "(LTermsDesk;[J)I" } : Jvm.MethodName)) ∈ lw_all := lw_g (lw_at lw_m8 128 rfl) rfl
theorem q1877 : (Jvm.Cond.static ({ cls := "TermsDeskLaw", name := "read", desc := "(LTermsDesk;[J)I" } : Jvm.MethodName)) ∈ lw_all := lw_g (lw_at lw_m8 129 rfl) rfl
theorem q1878 : (Jvm.Cond.codeWith ({ cls := "TermsDeskLaw", name := "read", desc := "(LTermsDesk;[J)I" } : Jvm.MethodName) method_32_code (3 : Nat) (Option.some Jvm.ClassFile.FieldType.int) [((0 : Nat), (8 : Nat), (11 : Nat), (13 : Nat)), ((0 : Nat), (8 : Nat), (14 : Nat), (68 : Nat))]) ∈ lw_all := lw_g (lw_at lw_m8 130 rfl) rfl
theorem q1879 : (Jvm.Cond.methodLink "TermsDeskLaw" (119 : Nat) ({ cls := "TermsDesk", name := "read", desc := "()I" } : Jvm.MethodName)) ∈ lw_all := lw_g (lw_at lw_m8 131 rfl) rfl
theorem q2009 : (Jvm.Cond.methodLink "TermsDeskLaw" (249 : Nat) ({ cls := "TermsDeskLaw", name := "errorPosition", desc := "(LTermsDesk;[J)I" } : Jvm.MethodName)) ∈ lw_all := lw_g (lw_at lw_m9 21 rfl) rfl
theorem q2010 : (Jvm.Cond.static ({ cls := "TermsDeskLaw", name := "errorPosition", desc := "(LTermsDesk;[J)I" } : Jvm.MethodName)) ∈ lw_all := lw_g (lw_at lw_m9 22 rfl) rfl
theorem q2011 : (Jvm.Cond.codeWith ({ cls := "TermsDeskLaw", name := "errorPosition", desc := "(LTermsDesk;[J)I" } : Jvm.MethodName) method_33_code (3 : Nat) (Option.some Jvm.ClassFile.FieldType.int) [((0 : Nat), (8 : Nat), (11 : Nat), (48 : Nat))]) ∈ lw_all := lw_g (lw_at lw_m9 23 rfl) rfl
theorem q2012 : (Jvm.Cond.methodLink "TermsDeskLaw" (122 : Nat) ({ cls := "TermsDesk", name := "errorPosition", desc := "()I" } : Jvm.MethodName)) ∈ lw_all := lw_g (lw_at lw_m9 24 rfl) rfl
theorem q2016 : (Jvm.Cond.methodLink "TermsDeskLaw" (252 : Nat) ({ cls := "TermsDeskLaw", name := "refusedItem", desc := "(LTermsDesk;[J)I" } : Jvm.MethodName)) ∈ lw_all := lw_g (lw_at lw_m9 28 rfl) rfl
theorem q2017 : (Jvm.Cond.static ({ cls := "TermsDeskLaw", name := "refusedItem", desc := "(LTermsDesk;[J)I" } : Jvm.MethodName)) ∈ lw_all := lw_g (lw_at lw_m9 29 rfl) rfl
theorem q2018 : (Jvm.Cond.codeWith ({ cls := "TermsDeskLaw", name := "refusedItem", desc := "(LTermsDesk;[J)I" } : Jvm.MethodName) method_34_code (3 : Nat) (Option.some Jvm.ClassFile.FieldType.int) [((0 : Nat), (8 : Nat), (11 : Nat), (48 : Nat))]) ∈ lw_all := lw_g (lw_at lw_m9 30 rfl) rfl
theorem q2019 : (Jvm.Cond.methodLink "TermsDeskLaw" (125 : Nat) ({ cls := "TermsDesk", name := "refusedItem", desc := "()I" } : Jvm.MethodName)) ∈ lw_all := lw_g (lw_at lw_m9 31 rfl) rfl
theorem q2023 : (Jvm.Cond.methodLink "TermsDeskLaw" (255 : Nat) ({ cls := "TermsDeskLaw", name := "undo", desc := "(LTermsDesk;[J)I" } : Jvm.MethodName)) ∈ lw_all := lw_g (lw_at lw_m9 35 rfl) rfl
theorem q2024 : (Jvm.Cond.static ({ cls := "TermsDeskLaw", name := "undo", desc := "(LTermsDesk;[J)I" } : Jvm.MethodName)) ∈ lw_all := lw_g (lw_at lw_m9 36 rfl) rfl
theorem q2025 : (Jvm.Cond.codeWith ({ cls := "TermsDeskLaw", name := "undo", desc := "(LTermsDesk;[J)I" } : Jvm.MethodName) method_35_code (3 : Nat) (Option.some Jvm.ClassFile.FieldType.int) [((0 : Nat), (8 : Nat), (11 : Nat), (15 : Nat))]) ∈ lw_all := lw_g (lw_at lw_m9 37 rfl) rfl
theorem q2026 : (Jvm.Cond.methodLink "TermsDeskLaw" (128 : Nat) ({ cls := "TermsDesk", name := "undo", desc := "()I" } : Jvm.MethodName)) ∈ lw_all := lw_g (lw_at lw_m9 38 rfl) rfl
theorem q2045 : (Jvm.Cond.methodLink "TermsDeskLaw" (262 : Nat) ({ cls := "TermsDeskLaw", name := "restore", desc := "(LTermsDesk;[J)I" } : Jvm.MethodName)) ∈ lw_all := lw_g (lw_at lw_m9 57 rfl) rfl
theorem q2046 : (Jvm.Cond.static ({ cls := "TermsDeskLaw", name := "restore", desc := "(LTermsDesk;[J)I" } : Jvm.MethodName)) ∈ lw_all := lw_g (lw_at lw_m9 58 rfl) rfl
theorem q2047 : (Jvm.Cond.codeWith ({ cls := "TermsDeskLaw", name := "restore", desc := "(LTermsDesk;[J)I" } : Jvm.MethodName) method_36_code (3 : Nat) (Option.some Jvm.ClassFile.FieldType.int) [((0 : Nat), (8 : Nat), (11 : Nat), (15 : Nat))]) ∈ lw_all := lw_g (lw_at lw_m9 59 rfl) rfl
theorem q2048 : (Jvm.Cond.methodLink "TermsDeskLaw" (131 : Nat) ({ cls := "TermsDesk", name := "restore", desc := "()I" } : Jvm.MethodName)) ∈ lw_all := lw_g (lw_at lw_m9 60 rfl) rfl
theorem q2052 : (Jvm.Cond.classLink "TermsDeskLaw" (135 : Nat) "TermsDeskModel") ∈ lw_all := lw_g (lw_at lw_m9 64 rfl) rfl
theorem q2054 : (Jvm.Cond.methodLink "TermsDeskLaw" (137 : Nat) ({ cls := "TermsDeskModel", name := "<init>", desc := "()V" } : Jvm.MethodName)) ∈ lw_all := lw_g (lw_at lw_m9 66 rfl) rfl
theorem q2149 : (Jvm.Cond.methodLink "TermsDeskLaw" (148 : Nat) ({ cls := "TermsDeskModel", name := "thrown", desc := "()I" } : Jvm.MethodName)) ∈ lw_all := lw_g (lw_at lw_m9 161 rfl) rfl
theorem q2153 : (Jvm.Cond.methodLink "TermsDeskLaw" (141 : Nat) ({ cls := "TermsDeskModel", name := "clear", desc := "()I" } : Jvm.MethodName)) ∈ lw_all := lw_g (lw_at lw_m9 165 rfl) rfl
theorem q2157 : (Jvm.Cond.methodLink "TermsDeskLaw" (147 : Nat) ({ cls := "TermsDeskModel", name := "addLicence", desc := "(III)I" } : Jvm.MethodName)) ∈ lw_all := lw_g (lw_at lw_m9 169 rfl) rfl
theorem q2180 : (Jvm.Cond.methodLink "TermsDeskLaw" (153 : Nat) ({ cls := "TermsDeskModel", name := "demand", desc := "(III)I" } : Jvm.MethodName)) ∈ lw_all := lw_g (lw_at lw_m9 192 rfl) rfl
theorem q2188 : (Jvm.Cond.methodLink "TermsDeskLaw" (156 : Nat) ({ cls := "TermsDeskModel", name := "addFile", desc := "(III)I" } : Jvm.MethodName)) ∈ lw_all := lw_g (lw_at lw_m9 200 rfl) rfl
theorem q2192 : (Jvm.Cond.methodLink "TermsDeskLaw" (160 : Nat) ({ cls := "TermsDeskModel", name := "flip", desc := "(I)I" } : Jvm.MethodName)) ∈ lw_all := lw_g (lw_at lw_m9 204 rfl) rfl
theorem q2208 : (Jvm.Cond.methodLink "TermsDeskLaw" (164 : Nat) ({ cls := "TermsDeskModel", name := "addWork", desc := "()I" } : Jvm.MethodName)) ∈ lw_all := lw_g (lw_at lw_m9 220 rfl) rfl
theorem q2212 : (Jvm.Cond.methodLink "TermsDeskLaw" (168 : Nat) ({ cls := "TermsDeskModel", name := "join", desc := "(IIZ)Z" } : Jvm.MethodName)) ∈ lw_all := lw_g (lw_at lw_m9 224 rfl) rfl
theorem q2224 : (Jvm.Cond.methodLink "TermsDeskLaw" (171 : Nat) ({ cls := "TermsDeskModel", name := "link", desc := "(IIZ)Z" } : Jvm.MethodName)) ∈ lw_all := lw_g (lw_at lw_m9 236 rfl) rfl
theorem q2228 : (Jvm.Cond.methodLink "TermsDeskLaw" (175 : Nat) ({ cls := "TermsDeskModel", name := "clashes", desc := "(II)I" } : Jvm.MethodName)) ∈ lw_all := lw_g (lw_at lw_m10 0 rfl) rfl
theorem q2290 : (Jvm.Cond.methodLink "TermsDeskLaw" (179 : Nat) ({ cls := "TermsDeskModel", name := "clash", desc := "(IIII)I" } : Jvm.MethodName)) ∈ lw_all := lw_g (lw_at lw_m10 62 rfl) rfl
theorem q2294 : (Jvm.Cond.methodLink "TermsDeskLaw" (182 : Nat) ({ cls := "TermsDeskModel", name := "due", desc := "(III)I" } : Jvm.MethodName)) ∈ lw_all := lw_g (lw_at lw_m10 66 rfl) rfl
theorem q2302 : (Jvm.Cond.methodLink "TermsDeskLaw" (185 : Nat) ({ cls := "TermsDeskModel", name := "least", desc := "(II)I" } : Jvm.MethodName)) ∈ lw_all := lw_g (lw_at lw_m10 74 rfl) rfl
theorem q2310 : (Jvm.Cond.methodLink "TermsDeskLaw" (188 : Nat) ({ cls := "TermsDeskModel", name := "remove", desc := "(II)I" } : Jvm.MethodName)) ∈ lw_all := lw_g (lw_at lw_m10 82 rfl) rfl
theorem q2314 : (Jvm.Cond.methodLink "TermsDeskLaw" (191 : Nat) ({ cls := "TermsDeskModel", name := "choice", desc := "(II)I" } : Jvm.MethodName)) ∈ lw_all := lw_g (lw_at lw_m10 86 rfl) rfl
theorem q2326 : (Jvm.Cond.methodLink "TermsDeskLaw" (194 : Nat) ({ cls := "TermsDeskModel", name := "choose", desc := "(II)I" } : Jvm.MethodName)) ∈ lw_all := lw_g (lw_at lw_m10 98 rfl) rfl
theorem q2330 : (Jvm.Cond.methodLink "TermsDeskLaw" (197 : Nat) ({ cls := "TermsDeskModel", name := "ship", desc := "(I)I" } : Jvm.MethodName)) ∈ lw_all := lw_g (lw_at lw_m10 102 rfl) rfl
theorem q2346 : (Jvm.Cond.methodLink "TermsDeskLaw" (200 : Nat) ({ cls := "TermsDeskModel", name := "refusal", desc := "(I)I" } : Jvm.MethodName)) ∈ lw_all := lw_g (lw_at lw_m10 118 rfl) rfl
theorem q2350 : (Jvm.Cond.methodLink "TermsDeskLaw" (203 : Nat) ({ cls := "TermsDeskModel", name := "notice", desc := "(II)C" } : Jvm.MethodName)) ∈ lw_all := lw_g (lw_at lw_m10 122 rfl) rfl
theorem q2354 : (Jvm.Cond.methodLink "TermsDeskLaw" (206 : Nat) ({ cls := "TermsDeskModel", name := "desk", desc := "(I)I" } : Jvm.MethodName)) ∈ lw_all := lw_g (lw_at lw_m10 126 rfl) rfl
theorem q2358 : (Jvm.Cond.methodLink "TermsDeskLaw" (209 : Nat) ({ cls := "TermsDeskModel", name := "demands", desc := "(I)J" } : Jvm.MethodName)) ∈ lw_all := lw_g (lw_at lw_m10 130 rfl) rfl
theorem q2362 : (Jvm.Cond.methodLink "TermsDeskLaw" (212 : Nat) ({ cls := "TermsDeskModel", name := "licence", desc := "(II)I" } : Jvm.MethodName)) ∈ lw_all := lw_g (lw_at lw_m10 134 rfl) rfl
theorem q2366 : (Jvm.Cond.methodLink "TermsDeskLaw" (215 : Nat) ({ cls := "TermsDeskModel", name := "file", desc := "(II)I" } : Jvm.MethodName)) ∈ lw_all := lw_g (lw_at lw_m10 138 rfl) rfl
theorem q2370 : (Jvm.Cond.methodLink "TermsDeskLaw" (218 : Nat) ({ cls := "TermsDeskModel", name := "work", desc := "(II)I" } : Jvm.MethodName)) ∈ lw_all := lw_g (lw_at lw_m10 142 rfl) rfl
theorem q2378 : (Jvm.Cond.methodLink "TermsDeskLaw" (221 : Nat) ({ cls := "TermsDeskModel", name := "links", desc := "(II)I" } : Jvm.MethodName)) ∈ lw_all := lw_g (lw_at lw_m10 150 rfl) rfl
theorem q2386 : (Jvm.Cond.methodLink "TermsDeskLaw" (225 : Nat) ({ cls := "TermsDeskModel", name := "meanSize", desc := "(I)D" } : Jvm.MethodName)) ∈ lw_all := lw_g (lw_at lw_m10 158 rfl) rfl
theorem q2390 : (Jvm.Cond.methodLink "TermsDeskLaw" (228 : Nat) ({ cls := "TermsDeskModel", name := "share", desc := "(I)F" } : Jvm.MethodName)) ∈ lw_all := lw_g (lw_at lw_m10 162 rfl) rfl
theorem q2394 : (Jvm.Cond.methodLink "TermsDeskLaw" (233 : Nat) ({ cls := "TermsDeskModel", name := "isConsistent", desc := "()Z" } : Jvm.MethodName)) ∈ lw_all := lw_g (lw_at lw_m10 166 rfl) rfl
theorem q2398 : (Jvm.Cond.methodLink "TermsDeskLaw" (236 : Nat) ({ cls := "TermsDeskModel", name := "store", desc := "(I)I" } : Jvm.MethodName)) ∈ lw_all := lw_g (lw_at lw_m10 170 rfl) rfl
theorem q2402 : (Jvm.Cond.methodLink "TermsDeskLaw" (239 : Nat) ({ cls := "TermsDeskModel", name := "mix", desc := "(III)I" } : Jvm.MethodName)) ∈ lw_all := lw_g (lw_at lw_m10 174 rfl) rfl
theorem q2406 : (Jvm.Cond.methodLink "TermsDeskLaw" (242 : Nat) ({ cls := "TermsDeskModel", name := "element", desc := "(II)J" } : Jvm.MethodName)) ∈ lw_all := lw_g (lw_at lw_m10 178 rfl) rfl
theorem q2410 : (Jvm.Cond.methodLink "TermsDeskLaw" (245 : Nat) ({ cls := "TermsDeskModel", name := "append", desc := "(I)I" } : Jvm.MethodName)) ∈ lw_all := lw_g (lw_at lw_m10 182 rfl) rfl
theorem q2414 : (Jvm.Cond.methodLink "TermsDeskLaw" (248 : Nat) ({ cls := "TermsDeskModel", name := "read", desc := "()I" } : Jvm.MethodName)) ∈ lw_all := lw_g (lw_at lw_m10 186 rfl) rfl
theorem q2444 : (Jvm.Cond.methodLink "TermsDeskLaw" (251 : Nat) ({ cls := "TermsDeskModel", name := "errorPosition", desc := "()I" } : Jvm.MethodName)) ∈ lw_all := lw_g (lw_at lw_m10 216 rfl) rfl
theorem q2448 : (Jvm.Cond.methodLink "TermsDeskLaw" (254 : Nat) ({ cls := "TermsDeskModel", name := "refusedItem", desc := "()I" } : Jvm.MethodName)) ∈ lw_all := lw_g (lw_at lw_m10 220 rfl) rfl
theorem q2452 : (Jvm.Cond.methodLink "TermsDeskLaw" (257 : Nat) ({ cls := "TermsDeskModel", name := "undo", desc := "()I" } : Jvm.MethodName)) ∈ lw_all := lw_g (lw_at lw_m10 224 rfl) rfl
theorem q2456 : (Jvm.Cond.methodLink "TermsDeskLaw" (261 : Nat) ({ cls := "TermsDeskModel", name := "snapshot", desc := "()I" } : Jvm.MethodName)) ∈ lw_all := lw_g (lw_at lw_m10 228 rfl) rfl
theorem q2460 : (Jvm.Cond.methodLink "TermsDeskLaw" (264 : Nat) ({ cls := "TermsDeskModel", name := "restore", desc := "()I" } : Jvm.MethodName)) ∈ lw_all := lw_g (lw_at lw_m10 232 rfl) rfl
