set_option maxRecDepth 100000
abbrev cL_law : ByteArray := code
def dkwL_law_95 : List UInt8 := [21, 4, 4, 96, 46, 182, 0, 248, 159, 0, 5, 3, 172, 132, 4, 6, 167, 246, 207, 4, 172]
abbrev dktL_law_95 : List UInt8 := dkwL_law_95 ++ []
def dkwL_law_94 : List UInt8 := [21, 6, 133, 148, 153, 0, 5, 3, 172, 167, 0, 28, 43, 42, 21, 4, 4, 96, 46, 182, 0, 245, 44, 42]
abbrev dktL_law_94 : List UInt8 := dkwL_law_94 ++ dktL_law_95
def dkwL_law_93 : List UInt8 := [182, 0, 244, 54, 6, 44, 182, 0, 130, 21, 5, 159, 0, 5, 3, 172, 21, 5, 154, 0, 15, 45, 3, 47]
abbrev dktL_law_93 : List UInt8 := dkwL_law_93 ++ dktL_law_94
def dkwL_law_92 : List UInt8 := [167, 0, 84, 43, 42, 21, 4, 4, 96, 46, 45, 184, 0, 242, 54, 5, 44, 42, 21, 4, 4, 96, 46]
abbrev dktL_law_92 : List UInt8 := dkwL_law_92 ++ dktL_law_93
def dkwL_law_91 : List UInt8 := [159, 0, 5, 3, 172, 21, 5, 154, 0, 15, 45, 3, 47, 21, 6, 133, 148, 153, 0, 5, 3, 172]
abbrev dktL_law_91 : List UInt8 := dkwL_law_91 ++ dktL_law_92
def dkwL_law_90 : List UInt8 := [184, 0, 239, 54, 5, 44, 42, 21, 4, 4, 96, 46, 182, 0, 241, 54, 6, 44, 182, 0, 130, 21, 5]
abbrev dktL_law_90 : List UInt8 := dkwL_law_90 ++ dktL_law_91
def dkwL_law_89 : List UInt8 := [153, 0, 11, 24, 7, 24, 7, 151, 154, 0, 5, 3, 172, 167, 0, 140, 43, 42, 21, 4, 4, 96, 46, 45]
abbrev dktL_law_89 : List UInt8 := dkwL_law_89 ++ dktL_law_90
def dkwL_law_88 : List UInt8 := [182, 0, 234, 57, 5, 44, 182, 0, 238, 57, 7, 24, 5, 24, 7, 151, 153, 0, 21, 24, 5, 24, 5, 151]
abbrev dktL_law_88 : List UInt8 := dkwL_law_88 ++ dktL_law_89
def dkwL_law_87 : List UInt8 := [172, 21, 5, 154, 0, 15, 45, 3, 47, 21, 6, 133, 148, 153, 0, 5, 3, 172, 167, 0, 181, 43]
abbrev dktL_law_87 : List UInt8 := dkwL_law_87 ++ dktL_law_88
def dkwL_law_86 : List UInt8 := [54, 5, 44, 42, 21, 4, 4, 96, 46, 182, 0, 233, 54, 6, 44, 182, 0, 130, 21, 5, 159, 0, 5, 3]
abbrev dktL_law_86 : List UInt8 := dkwL_law_86 ++ dktL_law_87
def dkwL_law_85 : List UInt8 := [182, 0, 227, 44, 182, 0, 230, 159, 0, 239, 3, 172, 43, 42, 21, 4, 4, 96, 46, 45, 184, 0, 231]
abbrev dktL_law_85 : List UInt8 := dkwL_law_85 ++ dktL_law_86
def dkwL_law_84 : List UInt8 := [172, 21, 5, 154, 0, 15, 45, 3, 47, 21, 6, 133, 148, 153, 0, 5, 3, 172, 167, 0, 250, 43]
abbrev dktL_law_84 : List UInt8 := dkwL_law_84 ++ dktL_law_85
def dkwL_law_83 : List UInt8 := [54, 5, 44, 42, 21, 4, 4, 96, 46, 182, 0, 226, 54, 6, 44, 182, 0, 130, 21, 5, 159, 0, 5, 3]
abbrev dktL_law_83 : List UInt8 := dkwL_law_83 ++ dktL_law_84
def dkwL_law_82 : List UInt8 := [21, 6, 133, 148, 153, 0, 5, 3, 172, 167, 1, 50, 43, 42, 21, 4, 4, 96, 46, 45, 184, 0, 224]
abbrev dktL_law_82 : List UInt8 := dkwL_law_82 ++ dktL_law_83
def dkwL_law_81 : List UInt8 := [182, 0, 223, 54, 6, 44, 182, 0, 130, 21, 5, 159, 0, 5, 3, 172, 21, 5, 154, 0, 15, 45, 3, 47]
abbrev dktL_law_81 : List UInt8 := dkwL_law_81 ++ dktL_law_82
def dkwL_law_80 : List UInt8 := [167, 1, 106, 43, 42, 21, 4, 4, 96, 46, 45, 184, 0, 221, 54, 5, 44, 42, 21, 4, 4, 96, 46]
abbrev dktL_law_80 : List UInt8 := dkwL_law_80 ++ dktL_law_81
def dkwL_law_79 : List UInt8 := [159, 0, 5, 3, 172, 21, 5, 154, 0, 15, 45, 3, 47, 21, 6, 133, 148, 153, 0, 5, 3, 172]
abbrev dktL_law_79 : List UInt8 := dkwL_law_79 ++ dktL_law_80
def dkwL_law_78 : List UInt8 := [184, 0, 218, 54, 5, 44, 42, 21, 4, 4, 96, 46, 182, 0, 220, 54, 6, 44, 182, 0, 130, 21, 5]
abbrev dktL_law_78 : List UInt8 := dkwL_law_78 ++ dktL_law_79
def dkwL_law_77 : List UInt8 := [45, 3, 47, 21, 6, 133, 148, 153, 0, 5, 3, 172, 167, 1, 162, 43, 42, 21, 4, 4, 96, 46, 45]
abbrev dktL_law_77 : List UInt8 := dkwL_law_77 ++ dktL_law_78
def dkwL_law_76 : List UInt8 := [7, 96, 46, 182, 0, 217, 54, 6, 44, 182, 0, 130, 21, 5, 159, 0, 5, 3, 172, 21, 5, 154, 0, 15]
abbrev dktL_law_76 : List UInt8 := dkwL_law_76 ++ dktL_law_77
def dkwL_law_75 : List UInt8 := [54, 5, 44, 42, 21, 4, 4, 96, 46, 42, 21, 4, 5, 96, 46, 42, 21, 4, 6, 96, 46, 42, 21, 4]
abbrev dktL_law_75 : List UInt8 := dkwL_law_75 ++ dktL_law_76
def dkwL_law_74 : List UInt8 := [46, 42, 21, 4, 5, 96, 46, 42, 21, 4, 6, 96, 46, 42, 21, 4, 7, 96, 46, 45, 184, 0, 215]
abbrev dktL_law_74 : List UInt8 := dkwL_law_74 ++ dktL_law_75
def dkwL_law_73 : List UInt8 := [154, 0, 15, 45, 3, 47, 21, 6, 133, 148, 153, 0, 5, 3, 172, 167, 1, 254, 43, 42, 21, 4, 4, 96]
abbrev dktL_law_73 : List UInt8 := dkwL_law_73 ++ dktL_law_74
def dkwL_law_72 : List UInt8 := [21, 4, 6, 96, 46, 182, 0, 214, 54, 6, 44, 182, 0, 130, 21, 5, 159, 0, 5, 3, 172, 21, 5]
abbrev dktL_law_72 : List UInt8 := dkwL_law_72 ++ dktL_law_73
def dkwL_law_71 : List UInt8 := [6, 96, 46, 45, 184, 0, 211, 54, 5, 44, 42, 21, 4, 4, 96, 46, 42, 21, 4, 5, 96, 46, 42]
abbrev dktL_law_71 : List UInt8 := dkwL_law_71 ++ dktL_law_72
def dkwL_law_70 : List UInt8 := [153, 0, 5, 3, 172, 167, 2, 78, 43, 42, 21, 4, 4, 96, 46, 42, 21, 4, 5, 96, 46, 42, 21, 4]
abbrev dktL_law_70 : List UInt8 := dkwL_law_70 ++ dktL_law_71
def dkwL_law_69 : List UInt8 := [182, 0, 130, 21, 5, 159, 0, 5, 3, 172, 21, 5, 154, 0, 15, 45, 3, 47, 21, 6, 133, 148]
abbrev dktL_law_69 : List UInt8 := dkwL_law_69 ++ dktL_law_70
def dkwL_law_68 : List UInt8 := [184, 0, 208, 54, 5, 44, 42, 21, 4, 4, 96, 46, 42, 21, 4, 5, 96, 46, 182, 0, 210, 54, 6, 44]
abbrev dktL_law_68 : List UInt8 := dkwL_law_68 ++ dktL_law_69
def dkwL_law_67 : List UInt8 := [153, 0, 5, 3, 172, 167, 2, 146, 43, 42, 21, 4, 4, 96, 46, 42, 21, 4, 5, 96, 46, 45]
abbrev dktL_law_67 : List UInt8 := dkwL_law_67 ++ dktL_law_68
def dkwL_law_66 : List UInt8 := [182, 0, 130, 21, 5, 159, 0, 5, 3, 172, 21, 5, 154, 0, 15, 45, 3, 47, 21, 6, 133, 148]
abbrev dktL_law_66 : List UInt8 := dkwL_law_66 ++ dktL_law_67
def dkwL_law_65 : List UInt8 := [184, 0, 205, 54, 5, 44, 42, 21, 4, 4, 96, 46, 42, 21, 4, 5, 96, 46, 182, 0, 207, 54, 6, 44]
abbrev dktL_law_65 : List UInt8 := dkwL_law_65 ++ dktL_law_66
def dkwL_law_64 : List UInt8 := [148, 153, 0, 5, 3, 172, 167, 2, 214, 43, 42, 21, 4, 4, 96, 46, 42, 21, 4, 5, 96, 46, 45]
abbrev dktL_law_64 : List UInt8 := dkwL_law_64 ++ dktL_law_65
def dkwL_law_63 : List UInt8 := [54, 6, 44, 182, 0, 130, 21, 5, 159, 0, 5, 3, 172, 21, 5, 154, 0, 15, 45, 3, 47, 21, 6, 133]
abbrev dktL_law_63 : List UInt8 := dkwL_law_63 ++ dktL_law_64
def dkwL_law_62 : List UInt8 := [46, 45, 184, 0, 202, 54, 5, 44, 42, 21, 4, 4, 96, 46, 42, 21, 4, 5, 96, 46, 182, 0, 204]
abbrev dktL_law_62 : List UInt8 := dkwL_law_62 ++ dktL_law_63
def dkwL_law_61 : List UInt8 := [21, 6, 133, 148, 153, 0, 5, 3, 172, 167, 3, 26, 43, 42, 21, 4, 4, 96, 46, 42, 21, 4, 5, 96]
abbrev dktL_law_61 : List UInt8 := dkwL_law_61 ++ dktL_law_62
def dkwL_law_60 : List UInt8 := [182, 0, 201, 54, 6, 44, 182, 0, 130, 21, 5, 159, 0, 5, 3, 172, 21, 5, 154, 0, 15, 45, 3, 47]
abbrev dktL_law_60 : List UInt8 := dkwL_law_60 ++ dktL_law_61
def dkwL_law_59 : List UInt8 := [5, 96, 46, 45, 184, 0, 199, 54, 5, 44, 42, 21, 4, 4, 96, 46, 42, 21, 4, 5, 96, 46]
abbrev dktL_law_59 : List UInt8 := dkwL_law_59 ++ dktL_law_60
def dkwL_law_58 : List UInt8 := [3, 47, 21, 6, 133, 148, 153, 0, 5, 3, 172, 167, 3, 94, 43, 42, 21, 4, 4, 96, 46, 42, 21, 4]
abbrev dktL_law_58 : List UInt8 := dkwL_law_58 ++ dktL_law_59
def dkwL_law_57 : List UInt8 := [96, 46, 182, 0, 198, 54, 6, 44, 182, 0, 130, 21, 5, 159, 0, 5, 3, 172, 21, 5, 154, 0, 15, 45]
abbrev dktL_law_57 : List UInt8 := dkwL_law_57 ++ dktL_law_58
def dkwL_law_56 : List UInt8 := [46, 42, 21, 4, 5, 96, 46, 45, 184, 0, 196, 54, 5, 44, 42, 21, 4, 4, 96, 46, 42, 21, 4, 5]
abbrev dktL_law_56 : List UInt8 := dkwL_law_56 ++ dktL_law_57
def dkwL_law_55 : List UInt8 := [154, 0, 15, 45, 3, 47, 21, 6, 133, 148, 153, 0, 5, 3, 172, 167, 3, 162, 43, 42, 21, 4, 4, 96]
abbrev dktL_law_55 : List UInt8 := dkwL_law_55 ++ dktL_law_56
def dkwL_law_54 : List UInt8 := [21, 4, 5, 96, 46, 182, 0, 195, 54, 6, 44, 182, 0, 130, 21, 5, 159, 0, 5, 3, 172, 21, 5]
abbrev dktL_law_54 : List UInt8 := dkwL_law_54 ++ dktL_law_55
def dkwL_law_53 : List UInt8 := [4, 96, 46, 42, 21, 4, 5, 96, 46, 45, 184, 0, 193, 54, 5, 44, 42, 21, 4, 4, 96, 46, 42]
abbrev dktL_law_53 : List UInt8 := dkwL_law_53 ++ dktL_law_54
def dkwL_law_52 : List UInt8 := [172, 21, 5, 154, 0, 14, 45, 3, 47, 22, 6, 148, 153, 0, 5, 3, 172, 167, 3, 230, 43, 42, 21, 4]
abbrev dktL_law_52 : List UInt8 := dkwL_law_52 ++ dktL_law_53
def dkwL_law_51 : List UInt8 := [54, 5, 44, 42, 21, 4, 4, 96, 46, 182, 0, 192, 55, 6, 44, 182, 0, 130, 21, 5, 159, 0, 5, 3]
abbrev dktL_law_51 : List UInt8 := dkwL_law_51 ++ dktL_law_52
def dkwL_law_50 : List UInt8 := [21, 6, 133, 148, 153, 0, 5, 3, 172, 167, 4, 29, 43, 42, 21, 4, 4, 96, 46, 45, 184, 0, 190]
abbrev dktL_law_50 : List UInt8 := dkwL_law_50 ++ dktL_law_51
def dkwL_law_49 : List UInt8 := [182, 0, 189, 54, 6, 44, 182, 0, 130, 21, 5, 159, 0, 5, 3, 172, 21, 5, 154, 0, 15, 45, 3, 47]
abbrev dktL_law_49 : List UInt8 := dkwL_law_49 ++ dktL_law_50
def dkwL_law_48 : List UInt8 := [5, 96, 46, 45, 184, 0, 187, 54, 5, 44, 42, 21, 4, 4, 96, 46, 42, 21, 4, 5, 96, 46]
abbrev dktL_law_48 : List UInt8 := dkwL_law_48 ++ dktL_law_49
def dkwL_law_47 : List UInt8 := [3, 47, 21, 6, 133, 148, 153, 0, 5, 3, 172, 167, 4, 97, 43, 42, 21, 4, 4, 96, 46, 42, 21, 4]
abbrev dktL_law_47 : List UInt8 := dkwL_law_47 ++ dktL_law_48
def dkwL_law_46 : List UInt8 := [96, 46, 182, 0, 186, 54, 6, 44, 182, 0, 130, 21, 5, 159, 0, 5, 3, 172, 21, 5, 154, 0, 15, 45]
abbrev dktL_law_46 : List UInt8 := dkwL_law_46 ++ dktL_law_47
def dkwL_law_45 : List UInt8 := [46, 42, 21, 4, 5, 96, 46, 45, 184, 0, 184, 54, 5, 44, 42, 21, 4, 4, 96, 46, 42, 21, 4, 5]
abbrev dktL_law_45 : List UInt8 := dkwL_law_45 ++ dktL_law_46
def dkwL_law_44 : List UInt8 := [154, 0, 15, 45, 3, 47, 21, 6, 133, 148, 153, 0, 5, 3, 172, 167, 4, 165, 43, 42, 21, 4, 4, 96]
abbrev dktL_law_44 : List UInt8 := dkwL_law_44 ++ dktL_law_45
def dkwL_law_43 : List UInt8 := [42, 21, 4, 5, 96, 46, 182, 0, 183, 54, 6, 44, 182, 0, 130, 21, 5, 159, 0, 5, 3, 172, 21, 5]
abbrev dktL_law_43 : List UInt8 := dkwL_law_43 ++ dktL_law_44
def dkwL_law_42 : List UInt8 := [21, 4, 4, 96, 46, 42, 21, 4, 5, 96, 46, 45, 184, 0, 181, 54, 5, 44, 42, 21, 4, 4, 96, 46]
abbrev dktL_law_42 : List UInt8 := dkwL_law_42 ++ dktL_law_43
def dkwL_law_41 : List UInt8 := [172, 21, 5, 154, 0, 15, 45, 3, 47, 21, 6, 133, 148, 153, 0, 5, 3, 172, 167, 4, 233, 43, 42]
abbrev dktL_law_41 : List UInt8 := dkwL_law_41 ++ dktL_law_42
def dkwL_law_40 : List UInt8 := [54, 5, 44, 42, 21, 4, 4, 96, 46, 182, 0, 180, 54, 6, 44, 182, 0, 130, 21, 5, 159, 0, 5, 3]
abbrev dktL_law_40 : List UInt8 := dkwL_law_40 ++ dktL_law_41
def dkwL_law_39 : List UInt8 := [21, 6, 133, 148, 153, 0, 5, 3, 172, 167, 5, 33, 43, 42, 21, 4, 4, 96, 46, 45, 184, 0, 178]
abbrev dktL_law_39 : List UInt8 := dkwL_law_39 ++ dktL_law_40
def dkwL_law_38 : List UInt8 := [182, 0, 177, 54, 6, 44, 182, 0, 130, 21, 5, 159, 0, 5, 3, 172, 21, 5, 154, 0, 15, 45, 3, 47]
abbrev dktL_law_38 : List UInt8 := dkwL_law_38 ++ dktL_law_39
def dkwL_law_37 : List UInt8 := [167, 5, 89, 43, 42, 21, 4, 4, 96, 46, 45, 184, 0, 175, 54, 5, 44, 42, 21, 4, 4, 96, 46]
abbrev dktL_law_37 : List UInt8 := dkwL_law_37 ++ dktL_law_38
def dkwL_law_36 : List UInt8 := [159, 0, 5, 3, 172, 21, 5, 154, 0, 15, 45, 3, 47, 21, 6, 133, 148, 153, 0, 5, 3, 172]
abbrev dktL_law_36 : List UInt8 := dkwL_law_36 ++ dktL_law_37
def dkwL_law_35 : List UInt8 := [184, 0, 172, 54, 5, 44, 42, 21, 4, 4, 96, 46, 182, 0, 174, 54, 6, 44, 182, 0, 130, 21, 5]
abbrev dktL_law_35 : List UInt8 := dkwL_law_35 ++ dktL_law_36
def dkwL_law_34 : List UInt8 := [45, 3, 47, 21, 6, 133, 148, 153, 0, 5, 3, 172, 167, 5, 145, 43, 42, 21, 4, 4, 96, 46, 45]
abbrev dktL_law_34 : List UInt8 := dkwL_law_34 ++ dktL_law_35
def dkwL_law_33 : List UInt8 := [54, 5, 44, 182, 0, 171, 54, 6, 44, 182, 0, 130, 21, 5, 159, 0, 5, 3, 172, 21, 5, 154, 0, 15]
abbrev dktL_law_33 : List UInt8 := dkwL_law_33 ++ dktL_law_34
def dkwL_law_32 : List UInt8 := [154, 0, 15, 45, 3, 47, 21, 6, 133, 148, 153, 0, 5, 3, 172, 167, 5, 189, 43, 45, 184, 0, 168]
abbrev dktL_law_32 : List UInt8 := dkwL_law_32 ++ dktL_law_33
def dkwL_law_31 : List UInt8 := [42, 21, 4, 5, 96, 46, 182, 0, 167, 54, 6, 44, 182, 0, 130, 21, 5, 159, 0, 5, 3, 172, 21, 5]
abbrev dktL_law_31 : List UInt8 := dkwL_law_31 ++ dktL_law_32
def dkwL_law_30 : List UInt8 := [21, 4, 4, 96, 46, 42, 21, 4, 5, 96, 46, 45, 184, 0, 165, 54, 5, 44, 42, 21, 4, 4, 96, 46]
abbrev dktL_law_30 : List UInt8 := dkwL_law_30 ++ dktL_law_31
def dkwL_law_29 : List UInt8 := [3, 172, 21, 5, 154, 0, 15, 45, 3, 47, 21, 6, 133, 148, 153, 0, 5, 3, 172, 167, 6, 1, 43, 42]
abbrev dktL_law_29 : List UInt8 := dkwL_law_29 ++ dktL_law_30
def dkwL_law_28 : List UInt8 := [96, 46, 153, 0, 7, 4, 167, 0, 4, 3, 182, 0, 164, 54, 6, 44, 182, 0, 130, 21, 5, 159, 0, 5]
abbrev dktL_law_28 : List UInt8 := dkwL_law_28 ++ dktL_law_29
def dkwL_law_27 : List UInt8 := [3, 45, 184, 0, 161, 54, 5, 44, 42, 21, 4, 4, 96, 46, 42, 21, 4, 5, 96, 46, 42, 21, 4, 6]
abbrev dktL_law_27 : List UInt8 := dkwL_law_27 ++ dktL_law_28
def dkwL_law_26 : List UInt8 := [21, 4, 4, 96, 46, 42, 21, 4, 5, 96, 46, 42, 21, 4, 6, 96, 46, 153, 0, 7, 4, 167, 0, 4]
abbrev dktL_law_26 : List UInt8 := dkwL_law_26 ++ dktL_law_27
def dkwL_law_25 : List UInt8 := [172, 21, 5, 154, 0, 15, 45, 3, 47, 21, 6, 133, 148, 153, 0, 5, 3, 172, 167, 6, 97, 43, 42]
abbrev dktL_law_25 : List UInt8 := dkwL_law_25 ++ dktL_law_26
def dkwL_law_24 : List UInt8 := [54, 5, 44, 42, 21, 4, 4, 96, 46, 182, 0, 160, 54, 6, 44, 182, 0, 130, 21, 5, 159, 0, 5, 3]
abbrev dktL_law_24 : List UInt8 := dkwL_law_24 ++ dktL_law_25
def dkwL_law_23 : List UInt8 := [21, 6, 133, 148, 153, 0, 5, 3, 172, 167, 6, 153, 43, 42, 21, 4, 4, 96, 46, 45, 184, 0, 158]
abbrev dktL_law_23 : List UInt8 := dkwL_law_23 ++ dktL_law_24
def dkwL_law_22 : List UInt8 := [182, 0, 157, 54, 6, 44, 182, 0, 130, 21, 5, 159, 0, 5, 3, 172, 21, 5, 154, 0, 15, 45, 3, 47]
abbrev dktL_law_22 : List UInt8 := dkwL_law_22 ++ dktL_law_23
def dkwL_law_21 : List UInt8 := [167, 6, 209, 43, 42, 21, 4, 4, 96, 46, 45, 184, 0, 155, 54, 5, 44, 42, 21, 4, 4, 96, 46]
abbrev dktL_law_21 : List UInt8 := dkwL_law_21 ++ dktL_law_22
def dkwL_law_20 : List UInt8 := [159, 0, 5, 3, 172, 21, 5, 154, 0, 15, 45, 3, 47, 21, 6, 133, 148, 153, 0, 5, 3, 172]
abbrev dktL_law_20 : List UInt8 := dkwL_law_20 ++ dktL_law_21
def dkwL_law_19 : List UInt8 := [21, 4, 4, 96, 46, 42, 21, 4, 5, 96, 46, 182, 0, 154, 54, 6, 44, 182, 0, 130, 21, 5]
abbrev dktL_law_19 : List UInt8 := dkwL_law_19 ++ dktL_law_20
def dkwL_law_18 : List UInt8 := [167, 7, 21, 43, 42, 21, 4, 4, 96, 46, 42, 21, 4, 5, 96, 46, 45, 184, 0, 151, 54, 5, 44, 42]
abbrev dktL_law_18 : List UInt8 := dkwL_law_18 ++ dktL_law_19
def dkwL_law_17 : List UInt8 := [21, 5, 159, 0, 5, 3, 172, 21, 5, 154, 0, 15, 45, 3, 47, 21, 6, 133, 148, 153, 0, 5, 3, 172]
abbrev dktL_law_17 : List UInt8 := dkwL_law_17 ++ dktL_law_18
def dkwL_law_16 : List UInt8 := [46, 45, 184, 0, 148, 54, 5, 44, 42, 21, 4, 4, 96, 46, 182, 0, 150, 54, 6, 44, 182, 0, 130]
abbrev dktL_law_16 : List UInt8 := dkwL_law_16 ++ dktL_law_17
def dkwL_law_15 : List UInt8 := [154, 0, 15, 45, 3, 47, 21, 6, 133, 148, 153, 0, 5, 3, 172, 167, 7, 77, 43, 42, 21, 4, 4, 96]
abbrev dktL_law_15 : List UInt8 := dkwL_law_15 ++ dktL_law_16
def dkwL_law_14 : List UInt8 := [42, 21, 4, 7, 96, 46, 182, 0, 147, 54, 6, 44, 182, 0, 130, 21, 5, 159, 0, 5, 3, 172, 21, 5]
abbrev dktL_law_14 : List UInt8 := dkwL_law_14 ++ dktL_law_15
def dkwL_law_13 : List UInt8 := [184, 0, 144, 54, 5, 44, 42, 21, 4, 4, 96, 46, 42, 21, 4, 5, 96, 46, 42, 21, 4, 6, 96, 46]
abbrev dktL_law_13 : List UInt8 := dkwL_law_13 ++ dktL_law_14
def dkwL_law_12 : List UInt8 := [21, 4, 4, 96, 46, 42, 21, 4, 5, 96, 46, 42, 21, 4, 6, 96, 46, 42, 21, 4, 7, 96, 46, 45]
abbrev dktL_law_12 : List UInt8 := dkwL_law_12 ++ dktL_law_13
def dkwL_law_11 : List UInt8 := [172, 21, 5, 154, 0, 15, 45, 3, 47, 21, 6, 133, 148, 153, 0, 5, 3, 172, 167, 7, 169, 43, 42]
abbrev dktL_law_11 : List UInt8 := dkwL_law_11 ++ dktL_law_12
def dkwL_law_10 : List UInt8 := [54, 5, 44, 42, 21, 4, 4, 96, 46, 182, 0, 143, 54, 6, 44, 182, 0, 130, 21, 5, 159, 0, 5, 3]
abbrev dktL_law_10 : List UInt8 := dkwL_law_10 ++ dktL_law_11
def dkwL_law_9 : List UInt8 := [182, 0, 137, 44, 182, 0, 140, 159, 7, 227, 3, 172, 43, 42, 21, 4, 4, 96, 46, 45, 184, 0, 141]
abbrev dktL_law_9 : List UInt8 := dkwL_law_9 ++ dktL_law_10
def dkwL_law_8 : List UInt8 := [148, 153, 0, 5, 3, 172, 167, 7, 251, 43, 182, 0, 133, 44, 182, 0, 136, 159, 7, 240, 3, 172, 43]
abbrev dktL_law_8 : List UInt8 := dkwL_law_8 ++ dktL_law_9
def dkwL_law_7 : List UInt8 := [54, 6, 44, 182, 0, 130, 21, 5, 159, 0, 5, 3, 172, 21, 5, 154, 0, 15, 45, 3, 47, 21, 6, 133]
abbrev dktL_law_7 : List UInt8 := dkwL_law_7 ++ dktL_law_8
def dkwL_law_6 : List UInt8 := [172, 43, 42, 21, 4, 4, 96, 46, 45, 184, 0, 124, 54, 5, 44, 42, 21, 4, 4, 96, 46, 182, 0, 129]
abbrev dktL_law_6 : List UInt8 := dkwL_law_6 ++ dktL_law_7
def dkwL_law_5 : List UInt8 := [21, 4, 6, 96, 46, 42, 21, 4, 7, 96, 46, 42, 21, 4, 8, 96, 46, 182, 0, 123, 159, 8, 53, 3]
abbrev dktL_law_5 : List UInt8 := dkwL_law_5 ++ dktL_law_6
def dkwL_law_4 : List UInt8 := [46, 42, 21, 4, 8, 96, 46, 182, 0, 119, 44, 42, 21, 4, 4, 96, 46, 42, 21, 4, 5, 96, 46, 42]
abbrev dktL_law_4 : List UInt8 := dkwL_law_4 ++ dktL_law_5
def dkwL_law_3 : List UInt8 := [43, 42, 21, 4, 4, 96, 46, 42, 21, 4, 5, 96, 46, 42, 21, 4, 6, 96, 46, 42, 21, 4, 7, 96]
abbrev dktL_law_3 : List UInt8 := dkwL_law_3 ++ dktL_law_4
def dkwL_law_2 : List UInt8 := [170, 0, 0, 0, 0, 0, 9, 29, 0, 0, 0, 0, 0, 0, 0, 36, 0, 0, 0, 164, 0, 0, 0, 237, 0, 0, 1, 37, 0, 0, 1, 50, 0, 0, 1, 63, 0, 0, 1, 119, 0, 0, 1, 211, 0, 0, 2, 11, 0, 0, 2, 79, 0, 0, 2, 135, 0, 0, 2, 191, 0, 0, 3, 31, 0, 0, 3, 99, 0, 0, 3, 143, 0, 0, 3, 199, 0, 0, 3, 255, 0, 0, 4, 55, 0, 0, 4, 123, 0, 0, 4, 191, 0, 0, 5, 3, 0, 0, 5, 58, 0, 0, 5, 126, 0, 0, 5, 194, 0, 0, 6, 6, 0, 0, 6, 74, 0, 0, 6, 142, 0, 0, 6, 210, 0, 0, 7, 34, 0, 0, 7, 126, 0, 0, 7, 182, 0, 0, 7, 238, 0, 0, 8, 38, 0, 0, 8, 51, 0, 0, 8, 107, 0, 0, 8, 148, 0, 0, 8, 204, 0, 0, 9, 4]
abbrev dktL_law_2 : List UInt8 := dkwL_law_2 ++ dktL_law_3
def dkwL_law_1 : List UInt8 := [21, 4, 42, 190, 16, 6, 100, 163, 9, 45, 42, 21, 4, 46, 16, 63, 126]
abbrev dktL_law_1 : List UInt8 := dkwL_law_1 ++ dktL_law_2
def dkwL_law_0 : List UInt8 := [187, 0, 8, 89, 183, 0, 115, 76, 187, 0, 116, 89, 183, 0, 118, 77, 4, 188, 11, 78, 3, 54, 4]
abbrev dktL_law_0 : List UInt8 := dkwL_law_0 ++ dktL_law_1
theorem dksL_law_0 : cL_law.data.toList.drop 0 = dktL_law_0 := by decide +kernel
theorem dksL_law_1 : cL_law.data.toList.drop 23 = dktL_law_1 := dk_seg dksL_law_0 23 rfl rfl
theorem dksL_law_2 : cL_law.data.toList.drop 40 = dktL_law_2 := dk_seg dksL_law_1 17 rfl rfl
theorem dksL_law_3 : cL_law.data.toList.drop 204 = dktL_law_3 := dk_seg dksL_law_2 164 rfl rfl
theorem dksL_law_4 : cL_law.data.toList.drop 228 = dktL_law_4 := dk_seg dksL_law_3 24 rfl rfl
theorem dksL_law_5 : cL_law.data.toList.drop 252 = dktL_law_5 := dk_seg dksL_law_4 24 rfl rfl
theorem dksL_law_6 : cL_law.data.toList.drop 276 = dktL_law_6 := dk_seg dksL_law_5 24 rfl rfl
theorem dksL_law_7 : cL_law.data.toList.drop 300 = dktL_law_7 := dk_seg dksL_law_6 24 rfl rfl
theorem dksL_law_8 : cL_law.data.toList.drop 324 = dktL_law_8 := dk_seg dksL_law_7 24 rfl rfl
theorem dksL_law_9 : cL_law.data.toList.drop 347 = dktL_law_9 := dk_seg dksL_law_8 23 rfl rfl
theorem dksL_law_10 : cL_law.data.toList.drop 370 = dktL_law_10 := dk_seg dksL_law_9 23 rfl rfl
theorem dksL_law_11 : cL_law.data.toList.drop 394 = dktL_law_11 := dk_seg dksL_law_10 24 rfl rfl
theorem dksL_law_12 : cL_law.data.toList.drop 417 = dktL_law_12 := dk_seg dksL_law_11 23 rfl rfl
theorem dksL_law_13 : cL_law.data.toList.drop 441 = dktL_law_13 := dk_seg dksL_law_12 24 rfl rfl
theorem dksL_law_14 : cL_law.data.toList.drop 465 = dktL_law_14 := dk_seg dksL_law_13 24 rfl rfl
theorem dksL_law_15 : cL_law.data.toList.drop 489 = dktL_law_15 := dk_seg dksL_law_14 24 rfl rfl
theorem dksL_law_16 : cL_law.data.toList.drop 513 = dktL_law_16 := dk_seg dksL_law_15 24 rfl rfl
theorem dksL_law_17 : cL_law.data.toList.drop 536 = dktL_law_17 := dk_seg dksL_law_16 23 rfl rfl
theorem dksL_law_18 : cL_law.data.toList.drop 560 = dktL_law_18 := dk_seg dksL_law_17 24 rfl rfl
theorem dksL_law_19 : cL_law.data.toList.drop 584 = dktL_law_19 := dk_seg dksL_law_18 24 rfl rfl
theorem dksL_law_20 : cL_law.data.toList.drop 606 = dktL_law_20 := dk_seg dksL_law_19 22 rfl rfl
theorem dksL_law_21 : cL_law.data.toList.drop 628 = dktL_law_21 := dk_seg dksL_law_20 22 rfl rfl
theorem dksL_law_22 : cL_law.data.toList.drop 651 = dktL_law_22 := dk_seg dksL_law_21 23 rfl rfl
theorem dksL_law_23 : cL_law.data.toList.drop 675 = dktL_law_23 := dk_seg dksL_law_22 24 rfl rfl
theorem dksL_law_24 : cL_law.data.toList.drop 698 = dktL_law_24 := dk_seg dksL_law_23 23 rfl rfl
theorem dksL_law_25 : cL_law.data.toList.drop 722 = dktL_law_25 := dk_seg dksL_law_24 24 rfl rfl
theorem dksL_law_26 : cL_law.data.toList.drop 745 = dktL_law_26 := dk_seg dksL_law_25 23 rfl rfl
theorem dksL_law_27 : cL_law.data.toList.drop 769 = dktL_law_27 := dk_seg dksL_law_26 24 rfl rfl
theorem dksL_law_28 : cL_law.data.toList.drop 793 = dktL_law_28 := dk_seg dksL_law_27 24 rfl rfl
theorem dksL_law_29 : cL_law.data.toList.drop 817 = dktL_law_29 := dk_seg dksL_law_28 24 rfl rfl
theorem dksL_law_30 : cL_law.data.toList.drop 841 = dktL_law_30 := dk_seg dksL_law_29 24 rfl rfl
theorem dksL_law_31 : cL_law.data.toList.drop 865 = dktL_law_31 := dk_seg dksL_law_30 24 rfl rfl
theorem dksL_law_32 : cL_law.data.toList.drop 889 = dktL_law_32 := dk_seg dksL_law_31 24 rfl rfl
theorem dksL_law_33 : cL_law.data.toList.drop 912 = dktL_law_33 := dk_seg dksL_law_32 23 rfl rfl
theorem dksL_law_34 : cL_law.data.toList.drop 936 = dktL_law_34 := dk_seg dksL_law_33 24 rfl rfl
theorem dksL_law_35 : cL_law.data.toList.drop 959 = dktL_law_35 := dk_seg dksL_law_34 23 rfl rfl
theorem dksL_law_36 : cL_law.data.toList.drop 982 = dktL_law_36 := dk_seg dksL_law_35 23 rfl rfl
theorem dksL_law_37 : cL_law.data.toList.drop 1004 = dktL_law_37 := dk_seg dksL_law_36 22 rfl rfl
theorem dksL_law_38 : cL_law.data.toList.drop 1027 = dktL_law_38 := dk_seg dksL_law_37 23 rfl rfl
theorem dksL_law_39 : cL_law.data.toList.drop 1051 = dktL_law_39 := dk_seg dksL_law_38 24 rfl rfl
theorem dksL_law_40 : cL_law.data.toList.drop 1074 = dktL_law_40 := dk_seg dksL_law_39 23 rfl rfl
theorem dksL_law_41 : cL_law.data.toList.drop 1098 = dktL_law_41 := dk_seg dksL_law_40 24 rfl rfl
theorem dksL_law_42 : cL_law.data.toList.drop 1121 = dktL_law_42 := dk_seg dksL_law_41 23 rfl rfl
theorem dksL_law_43 : cL_law.data.toList.drop 1145 = dktL_law_43 := dk_seg dksL_law_42 24 rfl rfl
theorem dksL_law_44 : cL_law.data.toList.drop 1169 = dktL_law_44 := dk_seg dksL_law_43 24 rfl rfl
theorem dksL_law_45 : cL_law.data.toList.drop 1193 = dktL_law_45 := dk_seg dksL_law_44 24 rfl rfl
theorem dksL_law_46 : cL_law.data.toList.drop 1217 = dktL_law_46 := dk_seg dksL_law_45 24 rfl rfl
theorem dksL_law_47 : cL_law.data.toList.drop 1241 = dktL_law_47 := dk_seg dksL_law_46 24 rfl rfl
theorem dksL_law_48 : cL_law.data.toList.drop 1265 = dktL_law_48 := dk_seg dksL_law_47 24 rfl rfl
theorem dksL_law_49 : cL_law.data.toList.drop 1287 = dktL_law_49 := dk_seg dksL_law_48 22 rfl rfl
theorem dksL_law_50 : cL_law.data.toList.drop 1311 = dktL_law_50 := dk_seg dksL_law_49 24 rfl rfl
theorem dksL_law_51 : cL_law.data.toList.drop 1334 = dktL_law_51 := dk_seg dksL_law_50 23 rfl rfl
theorem dksL_law_52 : cL_law.data.toList.drop 1358 = dktL_law_52 := dk_seg dksL_law_51 24 rfl rfl
theorem dksL_law_53 : cL_law.data.toList.drop 1382 = dktL_law_53 := dk_seg dksL_law_52 24 rfl rfl
theorem dksL_law_54 : cL_law.data.toList.drop 1405 = dktL_law_54 := dk_seg dksL_law_53 23 rfl rfl
theorem dksL_law_55 : cL_law.data.toList.drop 1428 = dktL_law_55 := dk_seg dksL_law_54 23 rfl rfl
theorem dksL_law_56 : cL_law.data.toList.drop 1452 = dktL_law_56 := dk_seg dksL_law_55 24 rfl rfl
theorem dksL_law_57 : cL_law.data.toList.drop 1476 = dktL_law_57 := dk_seg dksL_law_56 24 rfl rfl
theorem dksL_law_58 : cL_law.data.toList.drop 1500 = dktL_law_58 := dk_seg dksL_law_57 24 rfl rfl
theorem dksL_law_59 : cL_law.data.toList.drop 1524 = dktL_law_59 := dk_seg dksL_law_58 24 rfl rfl
theorem dksL_law_60 : cL_law.data.toList.drop 1546 = dktL_law_60 := dk_seg dksL_law_59 22 rfl rfl
theorem dksL_law_61 : cL_law.data.toList.drop 1570 = dktL_law_61 := dk_seg dksL_law_60 24 rfl rfl
theorem dksL_law_62 : cL_law.data.toList.drop 1594 = dktL_law_62 := dk_seg dksL_law_61 24 rfl rfl
theorem dksL_law_63 : cL_law.data.toList.drop 1617 = dktL_law_63 := dk_seg dksL_law_62 23 rfl rfl
theorem dksL_law_64 : cL_law.data.toList.drop 1641 = dktL_law_64 := dk_seg dksL_law_63 24 rfl rfl
theorem dksL_law_65 : cL_law.data.toList.drop 1664 = dktL_law_65 := dk_seg dksL_law_64 23 rfl rfl
theorem dksL_law_66 : cL_law.data.toList.drop 1688 = dktL_law_66 := dk_seg dksL_law_65 24 rfl rfl
theorem dksL_law_67 : cL_law.data.toList.drop 1710 = dktL_law_67 := dk_seg dksL_law_66 22 rfl rfl
theorem dksL_law_68 : cL_law.data.toList.drop 1732 = dktL_law_68 := dk_seg dksL_law_67 22 rfl rfl
theorem dksL_law_69 : cL_law.data.toList.drop 1756 = dktL_law_69 := dk_seg dksL_law_68 24 rfl rfl
theorem dksL_law_70 : cL_law.data.toList.drop 1778 = dktL_law_70 := dk_seg dksL_law_69 22 rfl rfl
theorem dksL_law_71 : cL_law.data.toList.drop 1802 = dktL_law_71 := dk_seg dksL_law_70 24 rfl rfl
theorem dksL_law_72 : cL_law.data.toList.drop 1825 = dktL_law_72 := dk_seg dksL_law_71 23 rfl rfl
theorem dksL_law_73 : cL_law.data.toList.drop 1848 = dktL_law_73 := dk_seg dksL_law_72 23 rfl rfl
theorem dksL_law_74 : cL_law.data.toList.drop 1872 = dktL_law_74 := dk_seg dksL_law_73 24 rfl rfl
theorem dksL_law_75 : cL_law.data.toList.drop 1895 = dktL_law_75 := dk_seg dksL_law_74 23 rfl rfl
theorem dksL_law_76 : cL_law.data.toList.drop 1919 = dktL_law_76 := dk_seg dksL_law_75 24 rfl rfl
theorem dksL_law_77 : cL_law.data.toList.drop 1943 = dktL_law_77 := dk_seg dksL_law_76 24 rfl rfl
theorem dksL_law_78 : cL_law.data.toList.drop 1966 = dktL_law_78 := dk_seg dksL_law_77 23 rfl rfl
theorem dksL_law_79 : cL_law.data.toList.drop 1989 = dktL_law_79 := dk_seg dksL_law_78 23 rfl rfl
theorem dksL_law_80 : cL_law.data.toList.drop 2011 = dktL_law_80 := dk_seg dksL_law_79 22 rfl rfl
theorem dksL_law_81 : cL_law.data.toList.drop 2034 = dktL_law_81 := dk_seg dksL_law_80 23 rfl rfl
theorem dksL_law_82 : cL_law.data.toList.drop 2058 = dktL_law_82 := dk_seg dksL_law_81 24 rfl rfl
theorem dksL_law_83 : cL_law.data.toList.drop 2081 = dktL_law_83 := dk_seg dksL_law_82 23 rfl rfl
theorem dksL_law_84 : cL_law.data.toList.drop 2105 = dktL_law_84 := dk_seg dksL_law_83 24 rfl rfl
theorem dksL_law_85 : cL_law.data.toList.drop 2127 = dktL_law_85 := dk_seg dksL_law_84 22 rfl rfl
theorem dksL_law_86 : cL_law.data.toList.drop 2150 = dktL_law_86 := dk_seg dksL_law_85 23 rfl rfl
theorem dksL_law_87 : cL_law.data.toList.drop 2174 = dktL_law_87 := dk_seg dksL_law_86 24 rfl rfl
theorem dksL_law_88 : cL_law.data.toList.drop 2196 = dktL_law_88 := dk_seg dksL_law_87 22 rfl rfl
theorem dksL_law_89 : cL_law.data.toList.drop 2220 = dktL_law_89 := dk_seg dksL_law_88 24 rfl rfl
theorem dksL_law_90 : cL_law.data.toList.drop 2244 = dktL_law_90 := dk_seg dksL_law_89 24 rfl rfl
theorem dksL_law_91 : cL_law.data.toList.drop 2267 = dktL_law_91 := dk_seg dksL_law_90 23 rfl rfl
theorem dksL_law_92 : cL_law.data.toList.drop 2289 = dktL_law_92 := dk_seg dksL_law_91 22 rfl rfl
theorem dksL_law_93 : cL_law.data.toList.drop 2312 = dktL_law_93 := dk_seg dksL_law_92 23 rfl rfl
theorem dksL_law_94 : cL_law.data.toList.drop 2336 = dktL_law_94 := dk_seg dksL_law_93 24 rfl rfl
theorem dksL_law_95 : cL_law.data.toList.drop 2360 = dktL_law_95 := dk_seg dksL_law_94 24 rfl rfl
theorem dL_law_0 : decode cL_law 0 = .ok (.new 8, 3) := dk_187 0 8 (dk_at dksL_law_0 0 rfl rfl)
theorem dL_law_3 : decode cL_law 3 = .ok (.dup, 1) := dk_89 (dk_at dksL_law_0 3 rfl rfl)
theorem dL_law_4 : decode cL_law 4 = .ok (.invokespecial 115, 3) := dk_183 0 115 (dk_at dksL_law_0 4 rfl rfl)
theorem dL_law_7 : decode cL_law 7 = .ok (.astore_n 1, 1) := dk_76 (dk_at dksL_law_0 7 rfl rfl)
theorem dL_law_8 : decode cL_law 8 = .ok (.new 116, 3) := dk_187 0 116 (dk_at dksL_law_0 8 rfl rfl)
theorem dL_law_11 : decode cL_law 11 = .ok (.dup, 1) := dk_89 (dk_at dksL_law_0 11 rfl rfl)
theorem dL_law_12 : decode cL_law 12 = .ok (.invokespecial 118, 3) := dk_183 0 118 (dk_at dksL_law_0 12 rfl rfl)
theorem dL_law_15 : decode cL_law 15 = .ok (.astore_n 2, 1) := dk_77 (dk_at dksL_law_0 15 rfl rfl)
theorem dL_law_16 : decode cL_law 16 = .ok (.iconst 1, 1) := dk_4 (dk_at dksL_law_0 16 rfl rfl)
theorem dL_law_17 : decode cL_law 17 = .ok (.newarray .long, 2) := dk_188_11 (dk_at dksL_law_0 17 rfl rfl)
theorem dL_law_19 : decode cL_law 19 = .ok (.astore_n 3, 1) := dk_78 (dk_at dksL_law_0 19 rfl rfl)
theorem dL_law_20 : decode cL_law 20 = .ok (.iconst 0, 1) := dk_3 (dk_at dksL_law_0 20 rfl rfl)
theorem dL_law_21 : decode cL_law 21 = .ok (.istore 4, 2) := dk_54 4 (dk_at dksL_law_0 21 rfl rfl)
theorem dL_law_23 : decode cL_law 23 = .ok (.iload 4, 2) := dk_21 4 (dk_at dksL_law_1 0 rfl rfl)
theorem dL_law_25 : decode cL_law 25 = .ok (.aload_n 0, 1) := dk_42 (dk_at dksL_law_1 2 rfl rfl)
theorem dL_law_26 : decode cL_law 26 = .ok (.arraylength, 1) := dk_190 (dk_at dksL_law_1 3 rfl rfl)
theorem dL_law_27 : decode cL_law 27 = .ok (.bipush 6, 2) := dk_16 6 (dk_at dksL_law_1 4 rfl rfl)
theorem dL_law_29 : decode cL_law 29 = .ok (.isub, 1) := dk_100 (dk_at dksL_law_1 6 rfl rfl)
theorem dL_law_30 : decode cL_law 30 = .ok (.if_icmp .gt 2349, 3) := dk_163 9 45 (dk_at dksL_law_1 7 rfl rfl)
theorem dL_law_33 : decode cL_law 33 = .ok (.aload_n 0, 1) := dk_42 (dk_at dksL_law_1 10 rfl rfl)
theorem dL_law_34 : decode cL_law 34 = .ok (.iload 4, 2) := dk_21 4 (dk_at dksL_law_1 11 rfl rfl)
theorem dL_law_36 : decode cL_law 36 = .ok (.iaload, 1) := dk_46 (dk_at dksL_law_1 13 rfl rfl)
theorem dL_law_37 : decode cL_law 37 = .ok (.bipush 63, 2) := dk_16 63 (dk_at dksL_law_1 14 rfl rfl)
theorem dL_law_39 : decode cL_law 39 = .ok (.iand, 1) := dk_126 (dk_at dksL_law_1 16 rfl rfl)
theorem dL_law_40 : decode cL_law 40 = .ok (.tableswitch 2333 0 36 #[164, 237, 293, 306, 319, 375, 467, 523, 591, 647, 703, 799, 867, 911, 967, 1023, 1079, 1147, 1215, 1283, 1338, 1406, 1474, 1542, 1610, 1678, 1746, 1826, 1918, 1974, 2030, 2086, 2099, 2155, 2196, 2252, 2308], 164) := by decide +kernel
theorem dL_law_204 : decode cL_law 204 = .ok (.aload_n 1, 1) := dk_43 (dk_at dksL_law_3 0 rfl rfl)
theorem dL_law_205 : decode cL_law 205 = .ok (.aload_n 0, 1) := dk_42 (dk_at dksL_law_3 1 rfl rfl)
theorem dL_law_206 : decode cL_law 206 = .ok (.iload 4, 2) := dk_21 4 (dk_at dksL_law_3 2 rfl rfl)
theorem dL_law_208 : decode cL_law 208 = .ok (.iconst 1, 1) := dk_4 (dk_at dksL_law_3 4 rfl rfl)
theorem dL_law_209 : decode cL_law 209 = .ok (.iadd, 1) := dk_96 (dk_at dksL_law_3 5 rfl rfl)
theorem dL_law_210 : decode cL_law 210 = .ok (.iaload, 1) := dk_46 (dk_at dksL_law_3 6 rfl rfl)
theorem dL_law_211 : decode cL_law 211 = .ok (.aload_n 0, 1) := dk_42 (dk_at dksL_law_3 7 rfl rfl)
theorem dL_law_212 : decode cL_law 212 = .ok (.iload 4, 2) := dk_21 4 (dk_at dksL_law_3 8 rfl rfl)
theorem dL_law_214 : decode cL_law 214 = .ok (.iconst 2, 1) := dk_5 (dk_at dksL_law_3 10 rfl rfl)
theorem dL_law_215 : decode cL_law 215 = .ok (.iadd, 1) := dk_96 (dk_at dksL_law_3 11 rfl rfl)
theorem dL_law_216 : decode cL_law 216 = .ok (.iaload, 1) := dk_46 (dk_at dksL_law_3 12 rfl rfl)
theorem dL_law_217 : decode cL_law 217 = .ok (.aload_n 0, 1) := dk_42 (dk_at dksL_law_3 13 rfl rfl)
theorem dL_law_218 : decode cL_law 218 = .ok (.iload 4, 2) := dk_21 4 (dk_at dksL_law_3 14 rfl rfl)
theorem dL_law_220 : decode cL_law 220 = .ok (.iconst 3, 1) := dk_6 (dk_at dksL_law_3 16 rfl rfl)
theorem dL_law_221 : decode cL_law 221 = .ok (.iadd, 1) := dk_96 (dk_at dksL_law_3 17 rfl rfl)
theorem dL_law_222 : decode cL_law 222 = .ok (.iaload, 1) := dk_46 (dk_at dksL_law_3 18 rfl rfl)
theorem dL_law_223 : decode cL_law 223 = .ok (.aload_n 0, 1) := dk_42 (dk_at dksL_law_3 19 rfl rfl)
theorem dL_law_224 : decode cL_law 224 = .ok (.iload 4, 2) := dk_21 4 (dk_at dksL_law_3 20 rfl rfl)
theorem dL_law_226 : decode cL_law 226 = .ok (.iconst 4, 1) := dk_7 (dk_at dksL_law_3 22 rfl rfl)
theorem dL_law_227 : decode cL_law 227 = .ok (.iadd, 1) := dk_96 (dk_at dksL_law_3 23 rfl rfl)
theorem dL_law_228 : decode cL_law 228 = .ok (.iaload, 1) := dk_46 (dk_at dksL_law_4 0 rfl rfl)
theorem dL_law_229 : decode cL_law 229 = .ok (.aload_n 0, 1) := dk_42 (dk_at dksL_law_4 1 rfl rfl)
theorem dL_law_230 : decode cL_law 230 = .ok (.iload 4, 2) := dk_21 4 (dk_at dksL_law_4 2 rfl rfl)
theorem dL_law_232 : decode cL_law 232 = .ok (.iconst 5, 1) := dk_8 (dk_at dksL_law_4 4 rfl rfl)
theorem dL_law_233 : decode cL_law 233 = .ok (.iadd, 1) := dk_96 (dk_at dksL_law_4 5 rfl rfl)
theorem dL_law_234 : decode cL_law 234 = .ok (.iaload, 1) := dk_46 (dk_at dksL_law_4 6 rfl rfl)
theorem dL_law_235 : decode cL_law 235 = .ok (.invokevirtual 119, 3) := dk_182 0 119 (dk_at dksL_law_4 7 rfl rfl)
theorem dL_law_238 : decode cL_law 238 = .ok (.aload_n 2, 1) := dk_44 (dk_at dksL_law_4 10 rfl rfl)
theorem dL_law_239 : decode cL_law 239 = .ok (.aload_n 0, 1) := dk_42 (dk_at dksL_law_4 11 rfl rfl)
theorem dL_law_240 : decode cL_law 240 = .ok (.iload 4, 2) := dk_21 4 (dk_at dksL_law_4 12 rfl rfl)
theorem dL_law_242 : decode cL_law 242 = .ok (.iconst 1, 1) := dk_4 (dk_at dksL_law_4 14 rfl rfl)
theorem dL_law_243 : decode cL_law 243 = .ok (.iadd, 1) := dk_96 (dk_at dksL_law_4 15 rfl rfl)
theorem dL_law_244 : decode cL_law 244 = .ok (.iaload, 1) := dk_46 (dk_at dksL_law_4 16 rfl rfl)
theorem dL_law_245 : decode cL_law 245 = .ok (.aload_n 0, 1) := dk_42 (dk_at dksL_law_4 17 rfl rfl)
theorem dL_law_246 : decode cL_law 246 = .ok (.iload 4, 2) := dk_21 4 (dk_at dksL_law_4 18 rfl rfl)
theorem dL_law_248 : decode cL_law 248 = .ok (.iconst 2, 1) := dk_5 (dk_at dksL_law_4 20 rfl rfl)
theorem dL_law_249 : decode cL_law 249 = .ok (.iadd, 1) := dk_96 (dk_at dksL_law_4 21 rfl rfl)
theorem dL_law_250 : decode cL_law 250 = .ok (.iaload, 1) := dk_46 (dk_at dksL_law_4 22 rfl rfl)
theorem dL_law_251 : decode cL_law 251 = .ok (.aload_n 0, 1) := dk_42 (dk_at dksL_law_4 23 rfl rfl)
theorem dL_law_252 : decode cL_law 252 = .ok (.iload 4, 2) := dk_21 4 (dk_at dksL_law_5 0 rfl rfl)
theorem dL_law_254 : decode cL_law 254 = .ok (.iconst 3, 1) := dk_6 (dk_at dksL_law_5 2 rfl rfl)
theorem dL_law_255 : decode cL_law 255 = .ok (.iadd, 1) := dk_96 (dk_at dksL_law_5 3 rfl rfl)
theorem dL_law_256 : decode cL_law 256 = .ok (.iaload, 1) := dk_46 (dk_at dksL_law_5 4 rfl rfl)
theorem dL_law_257 : decode cL_law 257 = .ok (.aload_n 0, 1) := dk_42 (dk_at dksL_law_5 5 rfl rfl)
theorem dL_law_258 : decode cL_law 258 = .ok (.iload 4, 2) := dk_21 4 (dk_at dksL_law_5 6 rfl rfl)
theorem dL_law_260 : decode cL_law 260 = .ok (.iconst 4, 1) := dk_7 (dk_at dksL_law_5 8 rfl rfl)
theorem dL_law_261 : decode cL_law 261 = .ok (.iadd, 1) := dk_96 (dk_at dksL_law_5 9 rfl rfl)
theorem dL_law_262 : decode cL_law 262 = .ok (.iaload, 1) := dk_46 (dk_at dksL_law_5 10 rfl rfl)
theorem dL_law_263 : decode cL_law 263 = .ok (.aload_n 0, 1) := dk_42 (dk_at dksL_law_5 11 rfl rfl)
theorem dL_law_264 : decode cL_law 264 = .ok (.iload 4, 2) := dk_21 4 (dk_at dksL_law_5 12 rfl rfl)
theorem dL_law_266 : decode cL_law 266 = .ok (.iconst 5, 1) := dk_8 (dk_at dksL_law_5 14 rfl rfl)
theorem dL_law_267 : decode cL_law 267 = .ok (.iadd, 1) := dk_96 (dk_at dksL_law_5 15 rfl rfl)
theorem dL_law_268 : decode cL_law 268 = .ok (.iaload, 1) := dk_46 (dk_at dksL_law_5 16 rfl rfl)
theorem dL_law_269 : decode cL_law 269 = .ok (.invokevirtual 123, 3) := dk_182 0 123 (dk_at dksL_law_5 17 rfl rfl)
theorem dL_law_272 : decode cL_law 272 = .ok (.if_icmp .eq 2101, 3) := dk_159 8 53 (dk_at dksL_law_5 20 rfl rfl)
theorem dL_law_275 : decode cL_law 275 = .ok (.iconst 0, 1) := dk_3 (dk_at dksL_law_5 23 rfl rfl)
theorem dL_law_276 : decode cL_law 276 = .ok (.ireturn, 1) := dk_172 (dk_at dksL_law_6 0 rfl rfl)
theorem dL_law_277 : decode cL_law 277 = .ok (.aload_n 1, 1) := dk_43 (dk_at dksL_law_6 1 rfl rfl)
theorem dL_law_278 : decode cL_law 278 = .ok (.aload_n 0, 1) := dk_42 (dk_at dksL_law_6 2 rfl rfl)
theorem dL_law_279 : decode cL_law 279 = .ok (.iload 4, 2) := dk_21 4 (dk_at dksL_law_6 3 rfl rfl)
theorem dL_law_281 : decode cL_law 281 = .ok (.iconst 1, 1) := dk_4 (dk_at dksL_law_6 5 rfl rfl)
theorem dL_law_282 : decode cL_law 282 = .ok (.iadd, 1) := dk_96 (dk_at dksL_law_6 6 rfl rfl)
theorem dL_law_283 : decode cL_law 283 = .ok (.iaload, 1) := dk_46 (dk_at dksL_law_6 7 rfl rfl)
theorem dL_law_284 : decode cL_law 284 = .ok (.aload_n 3, 1) := dk_45 (dk_at dksL_law_6 8 rfl rfl)
theorem dL_law_285 : decode cL_law 285 = .ok (.invokestatic 124, 3) := dk_184 0 124 (dk_at dksL_law_6 9 rfl rfl)
theorem dL_law_288 : decode cL_law 288 = .ok (.istore 5, 2) := dk_54 5 (dk_at dksL_law_6 12 rfl rfl)
theorem dL_law_290 : decode cL_law 290 = .ok (.aload_n 2, 1) := dk_44 (dk_at dksL_law_6 14 rfl rfl)
theorem dL_law_291 : decode cL_law 291 = .ok (.aload_n 0, 1) := dk_42 (dk_at dksL_law_6 15 rfl rfl)
theorem dL_law_292 : decode cL_law 292 = .ok (.iload 4, 2) := dk_21 4 (dk_at dksL_law_6 16 rfl rfl)
theorem dL_law_294 : decode cL_law 294 = .ok (.iconst 1, 1) := dk_4 (dk_at dksL_law_6 18 rfl rfl)
theorem dL_law_295 : decode cL_law 295 = .ok (.iadd, 1) := dk_96 (dk_at dksL_law_6 19 rfl rfl)
theorem dL_law_296 : decode cL_law 296 = .ok (.iaload, 1) := dk_46 (dk_at dksL_law_6 20 rfl rfl)
theorem dL_law_297 : decode cL_law 297 = .ok (.invokevirtual 129, 3) := dk_182 0 129 (dk_at dksL_law_6 21 rfl rfl)
theorem dL_law_300 : decode cL_law 300 = .ok (.istore 6, 2) := dk_54 6 (dk_at dksL_law_7 0 rfl rfl)
theorem dL_law_302 : decode cL_law 302 = .ok (.aload_n 2, 1) := dk_44 (dk_at dksL_law_7 2 rfl rfl)
theorem dL_law_303 : decode cL_law 303 = .ok (.invokevirtual 130, 3) := dk_182 0 130 (dk_at dksL_law_7 3 rfl rfl)
theorem dL_law_306 : decode cL_law 306 = .ok (.iload 5, 2) := dk_21 5 (dk_at dksL_law_7 6 rfl rfl)
theorem dL_law_308 : decode cL_law 308 = .ok (.if_icmp .eq 5, 3) := dk_159 0 5 (dk_at dksL_law_7 8 rfl rfl)
theorem dL_law_311 : decode cL_law 311 = .ok (.iconst 0, 1) := dk_3 (dk_at dksL_law_7 11 rfl rfl)
theorem dL_law_312 : decode cL_law 312 = .ok (.ireturn, 1) := dk_172 (dk_at dksL_law_7 12 rfl rfl)
theorem dL_law_313 : decode cL_law 313 = .ok (.iload 5, 2) := dk_21 5 (dk_at dksL_law_7 13 rfl rfl)
theorem dL_law_315 : decode cL_law 315 = .ok (.ifCond .ne 15, 3) := dk_154 0 15 (dk_at dksL_law_7 15 rfl rfl)
theorem dL_law_318 : decode cL_law 318 = .ok (.aload_n 3, 1) := dk_45 (dk_at dksL_law_7 18 rfl rfl)
theorem dL_law_319 : decode cL_law 319 = .ok (.iconst 0, 1) := dk_3 (dk_at dksL_law_7 19 rfl rfl)
theorem dL_law_320 : decode cL_law 320 = .ok (.laload, 1) := dk_47 (dk_at dksL_law_7 20 rfl rfl)
theorem dL_law_321 : decode cL_law 321 = .ok (.iload 6, 2) := dk_21 6 (dk_at dksL_law_7 21 rfl rfl)
theorem dL_law_323 : decode cL_law 323 = .ok (.i2l, 1) := dk_133 (dk_at dksL_law_7 23 rfl rfl)
theorem dL_law_324 : decode cL_law 324 = .ok (.lcmp, 1) := dk_148 (dk_at dksL_law_8 0 rfl rfl)
theorem dL_law_325 : decode cL_law 325 = .ok (.ifCond .eq 5, 3) := dk_153 0 5 (dk_at dksL_law_8 1 rfl rfl)
theorem dL_law_328 : decode cL_law 328 = .ok (.iconst 0, 1) := dk_3 (dk_at dksL_law_8 4 rfl rfl)
theorem dL_law_329 : decode cL_law 329 = .ok (.ireturn, 1) := dk_172 (dk_at dksL_law_8 5 rfl rfl)
theorem dL_law_330 : decode cL_law 330 = .ok (.goto 2043, 3) := dk_167 7 251 (dk_at dksL_law_8 6 rfl rfl)
theorem dL_law_333 : decode cL_law 333 = .ok (.aload_n 1, 1) := dk_43 (dk_at dksL_law_8 9 rfl rfl)
theorem dL_law_334 : decode cL_law 334 = .ok (.invokevirtual 133, 3) := dk_182 0 133 (dk_at dksL_law_8 10 rfl rfl)
theorem dL_law_337 : decode cL_law 337 = .ok (.aload_n 2, 1) := dk_44 (dk_at dksL_law_8 13 rfl rfl)
theorem dL_law_338 : decode cL_law 338 = .ok (.invokevirtual 136, 3) := dk_182 0 136 (dk_at dksL_law_8 14 rfl rfl)
theorem dL_law_341 : decode cL_law 341 = .ok (.if_icmp .eq 2032, 3) := dk_159 7 240 (dk_at dksL_law_8 17 rfl rfl)
theorem dL_law_344 : decode cL_law 344 = .ok (.iconst 0, 1) := dk_3 (dk_at dksL_law_8 20 rfl rfl)
theorem dL_law_345 : decode cL_law 345 = .ok (.ireturn, 1) := dk_172 (dk_at dksL_law_8 21 rfl rfl)
theorem dL_law_346 : decode cL_law 346 = .ok (.aload_n 1, 1) := dk_43 (dk_at dksL_law_8 22 rfl rfl)
theorem dL_law_347 : decode cL_law 347 = .ok (.invokevirtual 137, 3) := dk_182 0 137 (dk_at dksL_law_9 0 rfl rfl)
theorem dL_law_350 : decode cL_law 350 = .ok (.aload_n 2, 1) := dk_44 (dk_at dksL_law_9 3 rfl rfl)
theorem dL_law_351 : decode cL_law 351 = .ok (.invokevirtual 140, 3) := dk_182 0 140 (dk_at dksL_law_9 4 rfl rfl)
theorem dL_law_354 : decode cL_law 354 = .ok (.if_icmp .eq 2019, 3) := dk_159 7 227 (dk_at dksL_law_9 7 rfl rfl)
theorem dL_law_357 : decode cL_law 357 = .ok (.iconst 0, 1) := dk_3 (dk_at dksL_law_9 10 rfl rfl)
theorem dL_law_358 : decode cL_law 358 = .ok (.ireturn, 1) := dk_172 (dk_at dksL_law_9 11 rfl rfl)
theorem dL_law_359 : decode cL_law 359 = .ok (.aload_n 1, 1) := dk_43 (dk_at dksL_law_9 12 rfl rfl)
theorem dL_law_360 : decode cL_law 360 = .ok (.aload_n 0, 1) := dk_42 (dk_at dksL_law_9 13 rfl rfl)
theorem dL_law_361 : decode cL_law 361 = .ok (.iload 4, 2) := dk_21 4 (dk_at dksL_law_9 14 rfl rfl)
theorem dL_law_363 : decode cL_law 363 = .ok (.iconst 1, 1) := dk_4 (dk_at dksL_law_9 16 rfl rfl)
theorem dL_law_364 : decode cL_law 364 = .ok (.iadd, 1) := dk_96 (dk_at dksL_law_9 17 rfl rfl)
theorem dL_law_365 : decode cL_law 365 = .ok (.iaload, 1) := dk_46 (dk_at dksL_law_9 18 rfl rfl)
theorem dL_law_366 : decode cL_law 366 = .ok (.aload_n 3, 1) := dk_45 (dk_at dksL_law_9 19 rfl rfl)
theorem dL_law_367 : decode cL_law 367 = .ok (.invokestatic 141, 3) := dk_184 0 141 (dk_at dksL_law_9 20 rfl rfl)
theorem dL_law_370 : decode cL_law 370 = .ok (.istore 5, 2) := dk_54 5 (dk_at dksL_law_10 0 rfl rfl)
theorem dL_law_372 : decode cL_law 372 = .ok (.aload_n 2, 1) := dk_44 (dk_at dksL_law_10 2 rfl rfl)
theorem dL_law_373 : decode cL_law 373 = .ok (.aload_n 0, 1) := dk_42 (dk_at dksL_law_10 3 rfl rfl)
theorem dL_law_374 : decode cL_law 374 = .ok (.iload 4, 2) := dk_21 4 (dk_at dksL_law_10 4 rfl rfl)
theorem dL_law_376 : decode cL_law 376 = .ok (.iconst 1, 1) := dk_4 (dk_at dksL_law_10 6 rfl rfl)
theorem dL_law_377 : decode cL_law 377 = .ok (.iadd, 1) := dk_96 (dk_at dksL_law_10 7 rfl rfl)
theorem dL_law_378 : decode cL_law 378 = .ok (.iaload, 1) := dk_46 (dk_at dksL_law_10 8 rfl rfl)
theorem dL_law_379 : decode cL_law 379 = .ok (.invokevirtual 143, 3) := dk_182 0 143 (dk_at dksL_law_10 9 rfl rfl)
theorem dL_law_382 : decode cL_law 382 = .ok (.istore 6, 2) := dk_54 6 (dk_at dksL_law_10 12 rfl rfl)
theorem dL_law_384 : decode cL_law 384 = .ok (.aload_n 2, 1) := dk_44 (dk_at dksL_law_10 14 rfl rfl)
theorem dL_law_385 : decode cL_law 385 = .ok (.invokevirtual 130, 3) := dk_182 0 130 (dk_at dksL_law_10 15 rfl rfl)
theorem dL_law_388 : decode cL_law 388 = .ok (.iload 5, 2) := dk_21 5 (dk_at dksL_law_10 18 rfl rfl)
theorem dL_law_390 : decode cL_law 390 = .ok (.if_icmp .eq 5, 3) := dk_159 0 5 (dk_at dksL_law_10 20 rfl rfl)
theorem dL_law_393 : decode cL_law 393 = .ok (.iconst 0, 1) := dk_3 (dk_at dksL_law_10 23 rfl rfl)
theorem dL_law_394 : decode cL_law 394 = .ok (.ireturn, 1) := dk_172 (dk_at dksL_law_11 0 rfl rfl)
theorem dL_law_395 : decode cL_law 395 = .ok (.iload 5, 2) := dk_21 5 (dk_at dksL_law_11 1 rfl rfl)
theorem dL_law_397 : decode cL_law 397 = .ok (.ifCond .ne 15, 3) := dk_154 0 15 (dk_at dksL_law_11 3 rfl rfl)
theorem dL_law_400 : decode cL_law 400 = .ok (.aload_n 3, 1) := dk_45 (dk_at dksL_law_11 6 rfl rfl)
theorem dL_law_401 : decode cL_law 401 = .ok (.iconst 0, 1) := dk_3 (dk_at dksL_law_11 7 rfl rfl)
theorem dL_law_402 : decode cL_law 402 = .ok (.laload, 1) := dk_47 (dk_at dksL_law_11 8 rfl rfl)
theorem dL_law_403 : decode cL_law 403 = .ok (.iload 6, 2) := dk_21 6 (dk_at dksL_law_11 9 rfl rfl)
theorem dL_law_405 : decode cL_law 405 = .ok (.i2l, 1) := dk_133 (dk_at dksL_law_11 11 rfl rfl)
theorem dL_law_406 : decode cL_law 406 = .ok (.lcmp, 1) := dk_148 (dk_at dksL_law_11 12 rfl rfl)
theorem dL_law_407 : decode cL_law 407 = .ok (.ifCond .eq 5, 3) := dk_153 0 5 (dk_at dksL_law_11 13 rfl rfl)
theorem dL_law_410 : decode cL_law 410 = .ok (.iconst 0, 1) := dk_3 (dk_at dksL_law_11 16 rfl rfl)
theorem dL_law_411 : decode cL_law 411 = .ok (.ireturn, 1) := dk_172 (dk_at dksL_law_11 17 rfl rfl)
theorem dL_law_412 : decode cL_law 412 = .ok (.goto 1961, 3) := dk_167 7 169 (dk_at dksL_law_11 18 rfl rfl)
theorem dL_law_415 : decode cL_law 415 = .ok (.aload_n 1, 1) := dk_43 (dk_at dksL_law_11 21 rfl rfl)
theorem dL_law_416 : decode cL_law 416 = .ok (.aload_n 0, 1) := dk_42 (dk_at dksL_law_11 22 rfl rfl)
theorem dL_law_417 : decode cL_law 417 = .ok (.iload 4, 2) := dk_21 4 (dk_at dksL_law_12 0 rfl rfl)
theorem dL_law_419 : decode cL_law 419 = .ok (.iconst 1, 1) := dk_4 (dk_at dksL_law_12 2 rfl rfl)
theorem dL_law_420 : decode cL_law 420 = .ok (.iadd, 1) := dk_96 (dk_at dksL_law_12 3 rfl rfl)
theorem dL_law_421 : decode cL_law 421 = .ok (.iaload, 1) := dk_46 (dk_at dksL_law_12 4 rfl rfl)
theorem dL_law_422 : decode cL_law 422 = .ok (.aload_n 0, 1) := dk_42 (dk_at dksL_law_12 5 rfl rfl)
theorem dL_law_423 : decode cL_law 423 = .ok (.iload 4, 2) := dk_21 4 (dk_at dksL_law_12 6 rfl rfl)
theorem dL_law_425 : decode cL_law 425 = .ok (.iconst 2, 1) := dk_5 (dk_at dksL_law_12 8 rfl rfl)
theorem dL_law_426 : decode cL_law 426 = .ok (.iadd, 1) := dk_96 (dk_at dksL_law_12 9 rfl rfl)
theorem dL_law_427 : decode cL_law 427 = .ok (.iaload, 1) := dk_46 (dk_at dksL_law_12 10 rfl rfl)
theorem dL_law_428 : decode cL_law 428 = .ok (.aload_n 0, 1) := dk_42 (dk_at dksL_law_12 11 rfl rfl)
theorem dL_law_429 : decode cL_law 429 = .ok (.iload 4, 2) := dk_21 4 (dk_at dksL_law_12 12 rfl rfl)
theorem dL_law_431 : decode cL_law 431 = .ok (.iconst 3, 1) := dk_6 (dk_at dksL_law_12 14 rfl rfl)
theorem dL_law_432 : decode cL_law 432 = .ok (.iadd, 1) := dk_96 (dk_at dksL_law_12 15 rfl rfl)
theorem dL_law_433 : decode cL_law 433 = .ok (.iaload, 1) := dk_46 (dk_at dksL_law_12 16 rfl rfl)
theorem dL_law_434 : decode cL_law 434 = .ok (.aload_n 0, 1) := dk_42 (dk_at dksL_law_12 17 rfl rfl)
theorem dL_law_435 : decode cL_law 435 = .ok (.iload 4, 2) := dk_21 4 (dk_at dksL_law_12 18 rfl rfl)
theorem dL_law_437 : decode cL_law 437 = .ok (.iconst 4, 1) := dk_7 (dk_at dksL_law_12 20 rfl rfl)
theorem dL_law_438 : decode cL_law 438 = .ok (.iadd, 1) := dk_96 (dk_at dksL_law_12 21 rfl rfl)
theorem dL_law_439 : decode cL_law 439 = .ok (.iaload, 1) := dk_46 (dk_at dksL_law_12 22 rfl rfl)
theorem dL_law_440 : decode cL_law 440 = .ok (.aload_n 3, 1) := dk_45 (dk_at dksL_law_12 23 rfl rfl)
theorem dL_law_441 : decode cL_law 441 = .ok (.invokestatic 144, 3) := dk_184 0 144 (dk_at dksL_law_13 0 rfl rfl)
theorem dL_law_444 : decode cL_law 444 = .ok (.istore 5, 2) := dk_54 5 (dk_at dksL_law_13 3 rfl rfl)
theorem dL_law_446 : decode cL_law 446 = .ok (.aload_n 2, 1) := dk_44 (dk_at dksL_law_13 5 rfl rfl)
theorem dL_law_447 : decode cL_law 447 = .ok (.aload_n 0, 1) := dk_42 (dk_at dksL_law_13 6 rfl rfl)
theorem dL_law_448 : decode cL_law 448 = .ok (.iload 4, 2) := dk_21 4 (dk_at dksL_law_13 7 rfl rfl)
theorem dL_law_450 : decode cL_law 450 = .ok (.iconst 1, 1) := dk_4 (dk_at dksL_law_13 9 rfl rfl)
theorem dL_law_451 : decode cL_law 451 = .ok (.iadd, 1) := dk_96 (dk_at dksL_law_13 10 rfl rfl)
theorem dL_law_452 : decode cL_law 452 = .ok (.iaload, 1) := dk_46 (dk_at dksL_law_13 11 rfl rfl)
theorem dL_law_453 : decode cL_law 453 = .ok (.aload_n 0, 1) := dk_42 (dk_at dksL_law_13 12 rfl rfl)
theorem dL_law_454 : decode cL_law 454 = .ok (.iload 4, 2) := dk_21 4 (dk_at dksL_law_13 13 rfl rfl)
theorem dL_law_456 : decode cL_law 456 = .ok (.iconst 2, 1) := dk_5 (dk_at dksL_law_13 15 rfl rfl)
theorem dL_law_457 : decode cL_law 457 = .ok (.iadd, 1) := dk_96 (dk_at dksL_law_13 16 rfl rfl)
theorem dL_law_458 : decode cL_law 458 = .ok (.iaload, 1) := dk_46 (dk_at dksL_law_13 17 rfl rfl)
theorem dL_law_459 : decode cL_law 459 = .ok (.aload_n 0, 1) := dk_42 (dk_at dksL_law_13 18 rfl rfl)
theorem dL_law_460 : decode cL_law 460 = .ok (.iload 4, 2) := dk_21 4 (dk_at dksL_law_13 19 rfl rfl)
theorem dL_law_462 : decode cL_law 462 = .ok (.iconst 3, 1) := dk_6 (dk_at dksL_law_13 21 rfl rfl)
theorem dL_law_463 : decode cL_law 463 = .ok (.iadd, 1) := dk_96 (dk_at dksL_law_13 22 rfl rfl)
theorem dL_law_464 : decode cL_law 464 = .ok (.iaload, 1) := dk_46 (dk_at dksL_law_13 23 rfl rfl)
theorem dL_law_465 : decode cL_law 465 = .ok (.aload_n 0, 1) := dk_42 (dk_at dksL_law_14 0 rfl rfl)
theorem dL_law_466 : decode cL_law 466 = .ok (.iload 4, 2) := dk_21 4 (dk_at dksL_law_14 1 rfl rfl)
theorem dL_law_468 : decode cL_law 468 = .ok (.iconst 4, 1) := dk_7 (dk_at dksL_law_14 3 rfl rfl)
theorem dL_law_469 : decode cL_law 469 = .ok (.iadd, 1) := dk_96 (dk_at dksL_law_14 4 rfl rfl)
theorem dL_law_470 : decode cL_law 470 = .ok (.iaload, 1) := dk_46 (dk_at dksL_law_14 5 rfl rfl)
theorem dL_law_471 : decode cL_law 471 = .ok (.invokevirtual 147, 3) := dk_182 0 147 (dk_at dksL_law_14 6 rfl rfl)
theorem dL_law_474 : decode cL_law 474 = .ok (.istore 6, 2) := dk_54 6 (dk_at dksL_law_14 9 rfl rfl)
theorem dL_law_476 : decode cL_law 476 = .ok (.aload_n 2, 1) := dk_44 (dk_at dksL_law_14 11 rfl rfl)
theorem dL_law_477 : decode cL_law 477 = .ok (.invokevirtual 130, 3) := dk_182 0 130 (dk_at dksL_law_14 12 rfl rfl)
theorem dL_law_480 : decode cL_law 480 = .ok (.iload 5, 2) := dk_21 5 (dk_at dksL_law_14 15 rfl rfl)
theorem dL_law_482 : decode cL_law 482 = .ok (.if_icmp .eq 5, 3) := dk_159 0 5 (dk_at dksL_law_14 17 rfl rfl)
theorem dL_law_485 : decode cL_law 485 = .ok (.iconst 0, 1) := dk_3 (dk_at dksL_law_14 20 rfl rfl)
theorem dL_law_486 : decode cL_law 486 = .ok (.ireturn, 1) := dk_172 (dk_at dksL_law_14 21 rfl rfl)
theorem dL_law_487 : decode cL_law 487 = .ok (.iload 5, 2) := dk_21 5 (dk_at dksL_law_14 22 rfl rfl)
theorem dL_law_489 : decode cL_law 489 = .ok (.ifCond .ne 15, 3) := dk_154 0 15 (dk_at dksL_law_15 0 rfl rfl)
theorem dL_law_492 : decode cL_law 492 = .ok (.aload_n 3, 1) := dk_45 (dk_at dksL_law_15 3 rfl rfl)
theorem dL_law_493 : decode cL_law 493 = .ok (.iconst 0, 1) := dk_3 (dk_at dksL_law_15 4 rfl rfl)
theorem dL_law_494 : decode cL_law 494 = .ok (.laload, 1) := dk_47 (dk_at dksL_law_15 5 rfl rfl)
theorem dL_law_495 : decode cL_law 495 = .ok (.iload 6, 2) := dk_21 6 (dk_at dksL_law_15 6 rfl rfl)
theorem dL_law_497 : decode cL_law 497 = .ok (.i2l, 1) := dk_133 (dk_at dksL_law_15 8 rfl rfl)
theorem dL_law_498 : decode cL_law 498 = .ok (.lcmp, 1) := dk_148 (dk_at dksL_law_15 9 rfl rfl)
theorem dL_law_499 : decode cL_law 499 = .ok (.ifCond .eq 5, 3) := dk_153 0 5 (dk_at dksL_law_15 10 rfl rfl)
theorem dL_law_502 : decode cL_law 502 = .ok (.iconst 0, 1) := dk_3 (dk_at dksL_law_15 13 rfl rfl)
theorem dL_law_503 : decode cL_law 503 = .ok (.ireturn, 1) := dk_172 (dk_at dksL_law_15 14 rfl rfl)
theorem dL_law_504 : decode cL_law 504 = .ok (.goto 1869, 3) := dk_167 7 77 (dk_at dksL_law_15 15 rfl rfl)
theorem dL_law_507 : decode cL_law 507 = .ok (.aload_n 1, 1) := dk_43 (dk_at dksL_law_15 18 rfl rfl)
theorem dL_law_508 : decode cL_law 508 = .ok (.aload_n 0, 1) := dk_42 (dk_at dksL_law_15 19 rfl rfl)
theorem dL_law_509 : decode cL_law 509 = .ok (.iload 4, 2) := dk_21 4 (dk_at dksL_law_15 20 rfl rfl)
theorem dL_law_511 : decode cL_law 511 = .ok (.iconst 1, 1) := dk_4 (dk_at dksL_law_15 22 rfl rfl)
theorem dL_law_512 : decode cL_law 512 = .ok (.iadd, 1) := dk_96 (dk_at dksL_law_15 23 rfl rfl)
theorem dL_law_513 : decode cL_law 513 = .ok (.iaload, 1) := dk_46 (dk_at dksL_law_16 0 rfl rfl)
theorem dL_law_514 : decode cL_law 514 = .ok (.aload_n 3, 1) := dk_45 (dk_at dksL_law_16 1 rfl rfl)
theorem dL_law_515 : decode cL_law 515 = .ok (.invokestatic 148, 3) := dk_184 0 148 (dk_at dksL_law_16 2 rfl rfl)
theorem dL_law_518 : decode cL_law 518 = .ok (.istore 5, 2) := dk_54 5 (dk_at dksL_law_16 5 rfl rfl)
theorem dL_law_520 : decode cL_law 520 = .ok (.aload_n 2, 1) := dk_44 (dk_at dksL_law_16 7 rfl rfl)
theorem dL_law_521 : decode cL_law 521 = .ok (.aload_n 0, 1) := dk_42 (dk_at dksL_law_16 8 rfl rfl)
theorem dL_law_522 : decode cL_law 522 = .ok (.iload 4, 2) := dk_21 4 (dk_at dksL_law_16 9 rfl rfl)
theorem dL_law_524 : decode cL_law 524 = .ok (.iconst 1, 1) := dk_4 (dk_at dksL_law_16 11 rfl rfl)
theorem dL_law_525 : decode cL_law 525 = .ok (.iadd, 1) := dk_96 (dk_at dksL_law_16 12 rfl rfl)
theorem dL_law_526 : decode cL_law 526 = .ok (.iaload, 1) := dk_46 (dk_at dksL_law_16 13 rfl rfl)
theorem dL_law_527 : decode cL_law 527 = .ok (.invokevirtual 150, 3) := dk_182 0 150 (dk_at dksL_law_16 14 rfl rfl)
theorem dL_law_530 : decode cL_law 530 = .ok (.istore 6, 2) := dk_54 6 (dk_at dksL_law_16 17 rfl rfl)
theorem dL_law_532 : decode cL_law 532 = .ok (.aload_n 2, 1) := dk_44 (dk_at dksL_law_16 19 rfl rfl)
theorem dL_law_533 : decode cL_law 533 = .ok (.invokevirtual 130, 3) := dk_182 0 130 (dk_at dksL_law_16 20 rfl rfl)
theorem dL_law_536 : decode cL_law 536 = .ok (.iload 5, 2) := dk_21 5 (dk_at dksL_law_17 0 rfl rfl)
theorem dL_law_538 : decode cL_law 538 = .ok (.if_icmp .eq 5, 3) := dk_159 0 5 (dk_at dksL_law_17 2 rfl rfl)
theorem dL_law_541 : decode cL_law 541 = .ok (.iconst 0, 1) := dk_3 (dk_at dksL_law_17 5 rfl rfl)
theorem dL_law_542 : decode cL_law 542 = .ok (.ireturn, 1) := dk_172 (dk_at dksL_law_17 6 rfl rfl)
theorem dL_law_543 : decode cL_law 543 = .ok (.iload 5, 2) := dk_21 5 (dk_at dksL_law_17 7 rfl rfl)
theorem dL_law_545 : decode cL_law 545 = .ok (.ifCond .ne 15, 3) := dk_154 0 15 (dk_at dksL_law_17 9 rfl rfl)
theorem dL_law_548 : decode cL_law 548 = .ok (.aload_n 3, 1) := dk_45 (dk_at dksL_law_17 12 rfl rfl)
theorem dL_law_549 : decode cL_law 549 = .ok (.iconst 0, 1) := dk_3 (dk_at dksL_law_17 13 rfl rfl)
theorem dL_law_550 : decode cL_law 550 = .ok (.laload, 1) := dk_47 (dk_at dksL_law_17 14 rfl rfl)
theorem dL_law_551 : decode cL_law 551 = .ok (.iload 6, 2) := dk_21 6 (dk_at dksL_law_17 15 rfl rfl)
theorem dL_law_553 : decode cL_law 553 = .ok (.i2l, 1) := dk_133 (dk_at dksL_law_17 17 rfl rfl)
theorem dL_law_554 : decode cL_law 554 = .ok (.lcmp, 1) := dk_148 (dk_at dksL_law_17 18 rfl rfl)
theorem dL_law_555 : decode cL_law 555 = .ok (.ifCond .eq 5, 3) := dk_153 0 5 (dk_at dksL_law_17 19 rfl rfl)
theorem dL_law_558 : decode cL_law 558 = .ok (.iconst 0, 1) := dk_3 (dk_at dksL_law_17 22 rfl rfl)
theorem dL_law_559 : decode cL_law 559 = .ok (.ireturn, 1) := dk_172 (dk_at dksL_law_17 23 rfl rfl)
theorem dL_law_560 : decode cL_law 560 = .ok (.goto 1813, 3) := dk_167 7 21 (dk_at dksL_law_18 0 rfl rfl)
theorem dL_law_563 : decode cL_law 563 = .ok (.aload_n 1, 1) := dk_43 (dk_at dksL_law_18 3 rfl rfl)
theorem dL_law_564 : decode cL_law 564 = .ok (.aload_n 0, 1) := dk_42 (dk_at dksL_law_18 4 rfl rfl)
theorem dL_law_565 : decode cL_law 565 = .ok (.iload 4, 2) := dk_21 4 (dk_at dksL_law_18 5 rfl rfl)
theorem dL_law_567 : decode cL_law 567 = .ok (.iconst 1, 1) := dk_4 (dk_at dksL_law_18 7 rfl rfl)
theorem dL_law_568 : decode cL_law 568 = .ok (.iadd, 1) := dk_96 (dk_at dksL_law_18 8 rfl rfl)
theorem dL_law_569 : decode cL_law 569 = .ok (.iaload, 1) := dk_46 (dk_at dksL_law_18 9 rfl rfl)
theorem dL_law_570 : decode cL_law 570 = .ok (.aload_n 0, 1) := dk_42 (dk_at dksL_law_18 10 rfl rfl)
theorem dL_law_571 : decode cL_law 571 = .ok (.iload 4, 2) := dk_21 4 (dk_at dksL_law_18 11 rfl rfl)
theorem dL_law_573 : decode cL_law 573 = .ok (.iconst 2, 1) := dk_5 (dk_at dksL_law_18 13 rfl rfl)
theorem dL_law_574 : decode cL_law 574 = .ok (.iadd, 1) := dk_96 (dk_at dksL_law_18 14 rfl rfl)
theorem dL_law_575 : decode cL_law 575 = .ok (.iaload, 1) := dk_46 (dk_at dksL_law_18 15 rfl rfl)
theorem dL_law_576 : decode cL_law 576 = .ok (.aload_n 3, 1) := dk_45 (dk_at dksL_law_18 16 rfl rfl)
theorem dL_law_577 : decode cL_law 577 = .ok (.invokestatic 151, 3) := dk_184 0 151 (dk_at dksL_law_18 17 rfl rfl)
theorem dL_law_580 : decode cL_law 580 = .ok (.istore 5, 2) := dk_54 5 (dk_at dksL_law_18 20 rfl rfl)
theorem dL_law_582 : decode cL_law 582 = .ok (.aload_n 2, 1) := dk_44 (dk_at dksL_law_18 22 rfl rfl)
theorem dL_law_583 : decode cL_law 583 = .ok (.aload_n 0, 1) := dk_42 (dk_at dksL_law_18 23 rfl rfl)
theorem dL_law_584 : decode cL_law 584 = .ok (.iload 4, 2) := dk_21 4 (dk_at dksL_law_19 0 rfl rfl)
theorem dL_law_586 : decode cL_law 586 = .ok (.iconst 1, 1) := dk_4 (dk_at dksL_law_19 2 rfl rfl)
theorem dL_law_587 : decode cL_law 587 = .ok (.iadd, 1) := dk_96 (dk_at dksL_law_19 3 rfl rfl)
theorem dL_law_588 : decode cL_law 588 = .ok (.iaload, 1) := dk_46 (dk_at dksL_law_19 4 rfl rfl)
theorem dL_law_589 : decode cL_law 589 = .ok (.aload_n 0, 1) := dk_42 (dk_at dksL_law_19 5 rfl rfl)
theorem dL_law_590 : decode cL_law 590 = .ok (.iload 4, 2) := dk_21 4 (dk_at dksL_law_19 6 rfl rfl)
theorem dL_law_592 : decode cL_law 592 = .ok (.iconst 2, 1) := dk_5 (dk_at dksL_law_19 8 rfl rfl)
theorem dL_law_593 : decode cL_law 593 = .ok (.iadd, 1) := dk_96 (dk_at dksL_law_19 9 rfl rfl)
theorem dL_law_594 : decode cL_law 594 = .ok (.iaload, 1) := dk_46 (dk_at dksL_law_19 10 rfl rfl)
theorem dL_law_595 : decode cL_law 595 = .ok (.invokevirtual 154, 3) := dk_182 0 154 (dk_at dksL_law_19 11 rfl rfl)
theorem dL_law_598 : decode cL_law 598 = .ok (.istore 6, 2) := dk_54 6 (dk_at dksL_law_19 14 rfl rfl)
theorem dL_law_600 : decode cL_law 600 = .ok (.aload_n 2, 1) := dk_44 (dk_at dksL_law_19 16 rfl rfl)
theorem dL_law_601 : decode cL_law 601 = .ok (.invokevirtual 130, 3) := dk_182 0 130 (dk_at dksL_law_19 17 rfl rfl)
theorem dL_law_604 : decode cL_law 604 = .ok (.iload 5, 2) := dk_21 5 (dk_at dksL_law_19 20 rfl rfl)
theorem dL_law_606 : decode cL_law 606 = .ok (.if_icmp .eq 5, 3) := dk_159 0 5 (dk_at dksL_law_20 0 rfl rfl)
theorem dL_law_609 : decode cL_law 609 = .ok (.iconst 0, 1) := dk_3 (dk_at dksL_law_20 3 rfl rfl)
theorem dL_law_610 : decode cL_law 610 = .ok (.ireturn, 1) := dk_172 (dk_at dksL_law_20 4 rfl rfl)
theorem dL_law_611 : decode cL_law 611 = .ok (.iload 5, 2) := dk_21 5 (dk_at dksL_law_20 5 rfl rfl)
theorem dL_law_613 : decode cL_law 613 = .ok (.ifCond .ne 15, 3) := dk_154 0 15 (dk_at dksL_law_20 7 rfl rfl)
theorem dL_law_616 : decode cL_law 616 = .ok (.aload_n 3, 1) := dk_45 (dk_at dksL_law_20 10 rfl rfl)
theorem dL_law_617 : decode cL_law 617 = .ok (.iconst 0, 1) := dk_3 (dk_at dksL_law_20 11 rfl rfl)
theorem dL_law_618 : decode cL_law 618 = .ok (.laload, 1) := dk_47 (dk_at dksL_law_20 12 rfl rfl)
theorem dL_law_619 : decode cL_law 619 = .ok (.iload 6, 2) := dk_21 6 (dk_at dksL_law_20 13 rfl rfl)
theorem dL_law_621 : decode cL_law 621 = .ok (.i2l, 1) := dk_133 (dk_at dksL_law_20 15 rfl rfl)
theorem dL_law_622 : decode cL_law 622 = .ok (.lcmp, 1) := dk_148 (dk_at dksL_law_20 16 rfl rfl)
theorem dL_law_623 : decode cL_law 623 = .ok (.ifCond .eq 5, 3) := dk_153 0 5 (dk_at dksL_law_20 17 rfl rfl)
theorem dL_law_626 : decode cL_law 626 = .ok (.iconst 0, 1) := dk_3 (dk_at dksL_law_20 20 rfl rfl)
theorem dL_law_627 : decode cL_law 627 = .ok (.ireturn, 1) := dk_172 (dk_at dksL_law_20 21 rfl rfl)
theorem dL_law_628 : decode cL_law 628 = .ok (.goto 1745, 3) := dk_167 6 209 (dk_at dksL_law_21 0 rfl rfl)
theorem dL_law_631 : decode cL_law 631 = .ok (.aload_n 1, 1) := dk_43 (dk_at dksL_law_21 3 rfl rfl)
theorem dL_law_632 : decode cL_law 632 = .ok (.aload_n 0, 1) := dk_42 (dk_at dksL_law_21 4 rfl rfl)
theorem dL_law_633 : decode cL_law 633 = .ok (.iload 4, 2) := dk_21 4 (dk_at dksL_law_21 5 rfl rfl)
theorem dL_law_635 : decode cL_law 635 = .ok (.iconst 1, 1) := dk_4 (dk_at dksL_law_21 7 rfl rfl)
theorem dL_law_636 : decode cL_law 636 = .ok (.iadd, 1) := dk_96 (dk_at dksL_law_21 8 rfl rfl)
theorem dL_law_637 : decode cL_law 637 = .ok (.iaload, 1) := dk_46 (dk_at dksL_law_21 9 rfl rfl)
theorem dL_law_638 : decode cL_law 638 = .ok (.aload_n 3, 1) := dk_45 (dk_at dksL_law_21 10 rfl rfl)
theorem dL_law_639 : decode cL_law 639 = .ok (.invokestatic 155, 3) := dk_184 0 155 (dk_at dksL_law_21 11 rfl rfl)
theorem dL_law_642 : decode cL_law 642 = .ok (.istore 5, 2) := dk_54 5 (dk_at dksL_law_21 14 rfl rfl)
theorem dL_law_644 : decode cL_law 644 = .ok (.aload_n 2, 1) := dk_44 (dk_at dksL_law_21 16 rfl rfl)
theorem dL_law_645 : decode cL_law 645 = .ok (.aload_n 0, 1) := dk_42 (dk_at dksL_law_21 17 rfl rfl)
theorem dL_law_646 : decode cL_law 646 = .ok (.iload 4, 2) := dk_21 4 (dk_at dksL_law_21 18 rfl rfl)
theorem dL_law_648 : decode cL_law 648 = .ok (.iconst 1, 1) := dk_4 (dk_at dksL_law_21 20 rfl rfl)
theorem dL_law_649 : decode cL_law 649 = .ok (.iadd, 1) := dk_96 (dk_at dksL_law_21 21 rfl rfl)
theorem dL_law_650 : decode cL_law 650 = .ok (.iaload, 1) := dk_46 (dk_at dksL_law_21 22 rfl rfl)
theorem dL_law_651 : decode cL_law 651 = .ok (.invokevirtual 157, 3) := dk_182 0 157 (dk_at dksL_law_22 0 rfl rfl)
theorem dL_law_654 : decode cL_law 654 = .ok (.istore 6, 2) := dk_54 6 (dk_at dksL_law_22 3 rfl rfl)
theorem dL_law_656 : decode cL_law 656 = .ok (.aload_n 2, 1) := dk_44 (dk_at dksL_law_22 5 rfl rfl)
theorem dL_law_657 : decode cL_law 657 = .ok (.invokevirtual 130, 3) := dk_182 0 130 (dk_at dksL_law_22 6 rfl rfl)
theorem dL_law_660 : decode cL_law 660 = .ok (.iload 5, 2) := dk_21 5 (dk_at dksL_law_22 9 rfl rfl)
theorem dL_law_662 : decode cL_law 662 = .ok (.if_icmp .eq 5, 3) := dk_159 0 5 (dk_at dksL_law_22 11 rfl rfl)
theorem dL_law_665 : decode cL_law 665 = .ok (.iconst 0, 1) := dk_3 (dk_at dksL_law_22 14 rfl rfl)
theorem dL_law_666 : decode cL_law 666 = .ok (.ireturn, 1) := dk_172 (dk_at dksL_law_22 15 rfl rfl)
theorem dL_law_667 : decode cL_law 667 = .ok (.iload 5, 2) := dk_21 5 (dk_at dksL_law_22 16 rfl rfl)
theorem dL_law_669 : decode cL_law 669 = .ok (.ifCond .ne 15, 3) := dk_154 0 15 (dk_at dksL_law_22 18 rfl rfl)
theorem dL_law_672 : decode cL_law 672 = .ok (.aload_n 3, 1) := dk_45 (dk_at dksL_law_22 21 rfl rfl)
theorem dL_law_673 : decode cL_law 673 = .ok (.iconst 0, 1) := dk_3 (dk_at dksL_law_22 22 rfl rfl)
theorem dL_law_674 : decode cL_law 674 = .ok (.laload, 1) := dk_47 (dk_at dksL_law_22 23 rfl rfl)
theorem dL_law_675 : decode cL_law 675 = .ok (.iload 6, 2) := dk_21 6 (dk_at dksL_law_23 0 rfl rfl)
theorem dL_law_677 : decode cL_law 677 = .ok (.i2l, 1) := dk_133 (dk_at dksL_law_23 2 rfl rfl)
theorem dL_law_678 : decode cL_law 678 = .ok (.lcmp, 1) := dk_148 (dk_at dksL_law_23 3 rfl rfl)
theorem dL_law_679 : decode cL_law 679 = .ok (.ifCond .eq 5, 3) := dk_153 0 5 (dk_at dksL_law_23 4 rfl rfl)
theorem dL_law_682 : decode cL_law 682 = .ok (.iconst 0, 1) := dk_3 (dk_at dksL_law_23 7 rfl rfl)
theorem dL_law_683 : decode cL_law 683 = .ok (.ireturn, 1) := dk_172 (dk_at dksL_law_23 8 rfl rfl)
theorem dL_law_684 : decode cL_law 684 = .ok (.goto 1689, 3) := dk_167 6 153 (dk_at dksL_law_23 9 rfl rfl)
theorem dL_law_687 : decode cL_law 687 = .ok (.aload_n 1, 1) := dk_43 (dk_at dksL_law_23 12 rfl rfl)
theorem dL_law_688 : decode cL_law 688 = .ok (.aload_n 0, 1) := dk_42 (dk_at dksL_law_23 13 rfl rfl)
theorem dL_law_689 : decode cL_law 689 = .ok (.iload 4, 2) := dk_21 4 (dk_at dksL_law_23 14 rfl rfl)
theorem dL_law_691 : decode cL_law 691 = .ok (.iconst 1, 1) := dk_4 (dk_at dksL_law_23 16 rfl rfl)
theorem dL_law_692 : decode cL_law 692 = .ok (.iadd, 1) := dk_96 (dk_at dksL_law_23 17 rfl rfl)
theorem dL_law_693 : decode cL_law 693 = .ok (.iaload, 1) := dk_46 (dk_at dksL_law_23 18 rfl rfl)
theorem dL_law_694 : decode cL_law 694 = .ok (.aload_n 3, 1) := dk_45 (dk_at dksL_law_23 19 rfl rfl)
theorem dL_law_695 : decode cL_law 695 = .ok (.invokestatic 158, 3) := dk_184 0 158 (dk_at dksL_law_23 20 rfl rfl)
theorem dL_law_698 : decode cL_law 698 = .ok (.istore 5, 2) := dk_54 5 (dk_at dksL_law_24 0 rfl rfl)
theorem dL_law_700 : decode cL_law 700 = .ok (.aload_n 2, 1) := dk_44 (dk_at dksL_law_24 2 rfl rfl)
theorem dL_law_701 : decode cL_law 701 = .ok (.aload_n 0, 1) := dk_42 (dk_at dksL_law_24 3 rfl rfl)
theorem dL_law_702 : decode cL_law 702 = .ok (.iload 4, 2) := dk_21 4 (dk_at dksL_law_24 4 rfl rfl)
theorem dL_law_704 : decode cL_law 704 = .ok (.iconst 1, 1) := dk_4 (dk_at dksL_law_24 6 rfl rfl)
theorem dL_law_705 : decode cL_law 705 = .ok (.iadd, 1) := dk_96 (dk_at dksL_law_24 7 rfl rfl)
theorem dL_law_706 : decode cL_law 706 = .ok (.iaload, 1) := dk_46 (dk_at dksL_law_24 8 rfl rfl)
theorem dL_law_707 : decode cL_law 707 = .ok (.invokevirtual 160, 3) := dk_182 0 160 (dk_at dksL_law_24 9 rfl rfl)
theorem dL_law_710 : decode cL_law 710 = .ok (.istore 6, 2) := dk_54 6 (dk_at dksL_law_24 12 rfl rfl)
theorem dL_law_712 : decode cL_law 712 = .ok (.aload_n 2, 1) := dk_44 (dk_at dksL_law_24 14 rfl rfl)
theorem dL_law_713 : decode cL_law 713 = .ok (.invokevirtual 130, 3) := dk_182 0 130 (dk_at dksL_law_24 15 rfl rfl)
theorem dL_law_716 : decode cL_law 716 = .ok (.iload 5, 2) := dk_21 5 (dk_at dksL_law_24 18 rfl rfl)
theorem dL_law_718 : decode cL_law 718 = .ok (.if_icmp .eq 5, 3) := dk_159 0 5 (dk_at dksL_law_24 20 rfl rfl)
theorem dL_law_721 : decode cL_law 721 = .ok (.iconst 0, 1) := dk_3 (dk_at dksL_law_24 23 rfl rfl)
theorem dL_law_722 : decode cL_law 722 = .ok (.ireturn, 1) := dk_172 (dk_at dksL_law_25 0 rfl rfl)
theorem dL_law_723 : decode cL_law 723 = .ok (.iload 5, 2) := dk_21 5 (dk_at dksL_law_25 1 rfl rfl)
theorem dL_law_725 : decode cL_law 725 = .ok (.ifCond .ne 15, 3) := dk_154 0 15 (dk_at dksL_law_25 3 rfl rfl)
theorem dL_law_728 : decode cL_law 728 = .ok (.aload_n 3, 1) := dk_45 (dk_at dksL_law_25 6 rfl rfl)
theorem dL_law_729 : decode cL_law 729 = .ok (.iconst 0, 1) := dk_3 (dk_at dksL_law_25 7 rfl rfl)
theorem dL_law_730 : decode cL_law 730 = .ok (.laload, 1) := dk_47 (dk_at dksL_law_25 8 rfl rfl)
theorem dL_law_731 : decode cL_law 731 = .ok (.iload 6, 2) := dk_21 6 (dk_at dksL_law_25 9 rfl rfl)
theorem dL_law_733 : decode cL_law 733 = .ok (.i2l, 1) := dk_133 (dk_at dksL_law_25 11 rfl rfl)
theorem dL_law_734 : decode cL_law 734 = .ok (.lcmp, 1) := dk_148 (dk_at dksL_law_25 12 rfl rfl)
theorem dL_law_735 : decode cL_law 735 = .ok (.ifCond .eq 5, 3) := dk_153 0 5 (dk_at dksL_law_25 13 rfl rfl)
theorem dL_law_738 : decode cL_law 738 = .ok (.iconst 0, 1) := dk_3 (dk_at dksL_law_25 16 rfl rfl)
theorem dL_law_739 : decode cL_law 739 = .ok (.ireturn, 1) := dk_172 (dk_at dksL_law_25 17 rfl rfl)
theorem dL_law_740 : decode cL_law 740 = .ok (.goto 1633, 3) := dk_167 6 97 (dk_at dksL_law_25 18 rfl rfl)
theorem dL_law_743 : decode cL_law 743 = .ok (.aload_n 1, 1) := dk_43 (dk_at dksL_law_25 21 rfl rfl)
theorem dL_law_744 : decode cL_law 744 = .ok (.aload_n 0, 1) := dk_42 (dk_at dksL_law_25 22 rfl rfl)
theorem dL_law_745 : decode cL_law 745 = .ok (.iload 4, 2) := dk_21 4 (dk_at dksL_law_26 0 rfl rfl)
theorem dL_law_747 : decode cL_law 747 = .ok (.iconst 1, 1) := dk_4 (dk_at dksL_law_26 2 rfl rfl)
theorem dL_law_748 : decode cL_law 748 = .ok (.iadd, 1) := dk_96 (dk_at dksL_law_26 3 rfl rfl)
theorem dL_law_749 : decode cL_law 749 = .ok (.iaload, 1) := dk_46 (dk_at dksL_law_26 4 rfl rfl)
theorem dL_law_750 : decode cL_law 750 = .ok (.aload_n 0, 1) := dk_42 (dk_at dksL_law_26 5 rfl rfl)
theorem dL_law_751 : decode cL_law 751 = .ok (.iload 4, 2) := dk_21 4 (dk_at dksL_law_26 6 rfl rfl)
theorem dL_law_753 : decode cL_law 753 = .ok (.iconst 2, 1) := dk_5 (dk_at dksL_law_26 8 rfl rfl)
theorem dL_law_754 : decode cL_law 754 = .ok (.iadd, 1) := dk_96 (dk_at dksL_law_26 9 rfl rfl)
theorem dL_law_755 : decode cL_law 755 = .ok (.iaload, 1) := dk_46 (dk_at dksL_law_26 10 rfl rfl)
theorem dL_law_756 : decode cL_law 756 = .ok (.aload_n 0, 1) := dk_42 (dk_at dksL_law_26 11 rfl rfl)
theorem dL_law_757 : decode cL_law 757 = .ok (.iload 4, 2) := dk_21 4 (dk_at dksL_law_26 12 rfl rfl)
theorem dL_law_759 : decode cL_law 759 = .ok (.iconst 3, 1) := dk_6 (dk_at dksL_law_26 14 rfl rfl)
theorem dL_law_760 : decode cL_law 760 = .ok (.iadd, 1) := dk_96 (dk_at dksL_law_26 15 rfl rfl)
theorem dL_law_761 : decode cL_law 761 = .ok (.iaload, 1) := dk_46 (dk_at dksL_law_26 16 rfl rfl)
theorem dL_law_762 : decode cL_law 762 = .ok (.ifCond .eq 7, 3) := dk_153 0 7 (dk_at dksL_law_26 17 rfl rfl)
theorem dL_law_765 : decode cL_law 765 = .ok (.iconst 1, 1) := dk_4 (dk_at dksL_law_26 20 rfl rfl)
theorem dL_law_766 : decode cL_law 766 = .ok (.goto 4, 3) := dk_167 0 4 (dk_at dksL_law_26 21 rfl rfl)
theorem dL_law_769 : decode cL_law 769 = .ok (.iconst 0, 1) := dk_3 (dk_at dksL_law_27 0 rfl rfl)
theorem dL_law_770 : decode cL_law 770 = .ok (.aload_n 3, 1) := dk_45 (dk_at dksL_law_27 1 rfl rfl)
theorem dL_law_771 : decode cL_law 771 = .ok (.invokestatic 161, 3) := dk_184 0 161 (dk_at dksL_law_27 2 rfl rfl)
theorem dL_law_774 : decode cL_law 774 = .ok (.istore 5, 2) := dk_54 5 (dk_at dksL_law_27 5 rfl rfl)
theorem dL_law_776 : decode cL_law 776 = .ok (.aload_n 2, 1) := dk_44 (dk_at dksL_law_27 7 rfl rfl)
theorem dL_law_777 : decode cL_law 777 = .ok (.aload_n 0, 1) := dk_42 (dk_at dksL_law_27 8 rfl rfl)
theorem dL_law_778 : decode cL_law 778 = .ok (.iload 4, 2) := dk_21 4 (dk_at dksL_law_27 9 rfl rfl)
theorem dL_law_780 : decode cL_law 780 = .ok (.iconst 1, 1) := dk_4 (dk_at dksL_law_27 11 rfl rfl)
theorem dL_law_781 : decode cL_law 781 = .ok (.iadd, 1) := dk_96 (dk_at dksL_law_27 12 rfl rfl)
theorem dL_law_782 : decode cL_law 782 = .ok (.iaload, 1) := dk_46 (dk_at dksL_law_27 13 rfl rfl)
theorem dL_law_783 : decode cL_law 783 = .ok (.aload_n 0, 1) := dk_42 (dk_at dksL_law_27 14 rfl rfl)
theorem dL_law_784 : decode cL_law 784 = .ok (.iload 4, 2) := dk_21 4 (dk_at dksL_law_27 15 rfl rfl)
theorem dL_law_786 : decode cL_law 786 = .ok (.iconst 2, 1) := dk_5 (dk_at dksL_law_27 17 rfl rfl)
theorem dL_law_787 : decode cL_law 787 = .ok (.iadd, 1) := dk_96 (dk_at dksL_law_27 18 rfl rfl)
theorem dL_law_788 : decode cL_law 788 = .ok (.iaload, 1) := dk_46 (dk_at dksL_law_27 19 rfl rfl)
theorem dL_law_789 : decode cL_law 789 = .ok (.aload_n 0, 1) := dk_42 (dk_at dksL_law_27 20 rfl rfl)
theorem dL_law_790 : decode cL_law 790 = .ok (.iload 4, 2) := dk_21 4 (dk_at dksL_law_27 21 rfl rfl)
theorem dL_law_792 : decode cL_law 792 = .ok (.iconst 3, 1) := dk_6 (dk_at dksL_law_27 23 rfl rfl)
theorem dL_law_793 : decode cL_law 793 = .ok (.iadd, 1) := dk_96 (dk_at dksL_law_28 0 rfl rfl)
theorem dL_law_794 : decode cL_law 794 = .ok (.iaload, 1) := dk_46 (dk_at dksL_law_28 1 rfl rfl)
theorem dL_law_795 : decode cL_law 795 = .ok (.ifCond .eq 7, 3) := dk_153 0 7 (dk_at dksL_law_28 2 rfl rfl)
theorem dL_law_798 : decode cL_law 798 = .ok (.iconst 1, 1) := dk_4 (dk_at dksL_law_28 5 rfl rfl)
theorem dL_law_799 : decode cL_law 799 = .ok (.goto 4, 3) := dk_167 0 4 (dk_at dksL_law_28 6 rfl rfl)
theorem dL_law_802 : decode cL_law 802 = .ok (.iconst 0, 1) := dk_3 (dk_at dksL_law_28 9 rfl rfl)
theorem dL_law_803 : decode cL_law 803 = .ok (.invokevirtual 164, 3) := dk_182 0 164 (dk_at dksL_law_28 10 rfl rfl)
theorem dL_law_806 : decode cL_law 806 = .ok (.istore 6, 2) := dk_54 6 (dk_at dksL_law_28 13 rfl rfl)
theorem dL_law_808 : decode cL_law 808 = .ok (.aload_n 2, 1) := dk_44 (dk_at dksL_law_28 15 rfl rfl)
theorem dL_law_809 : decode cL_law 809 = .ok (.invokevirtual 130, 3) := dk_182 0 130 (dk_at dksL_law_28 16 rfl rfl)
theorem dL_law_812 : decode cL_law 812 = .ok (.iload 5, 2) := dk_21 5 (dk_at dksL_law_28 19 rfl rfl)
theorem dL_law_814 : decode cL_law 814 = .ok (.if_icmp .eq 5, 3) := dk_159 0 5 (dk_at dksL_law_28 21 rfl rfl)
theorem dL_law_817 : decode cL_law 817 = .ok (.iconst 0, 1) := dk_3 (dk_at dksL_law_29 0 rfl rfl)
theorem dL_law_818 : decode cL_law 818 = .ok (.ireturn, 1) := dk_172 (dk_at dksL_law_29 1 rfl rfl)
theorem dL_law_819 : decode cL_law 819 = .ok (.iload 5, 2) := dk_21 5 (dk_at dksL_law_29 2 rfl rfl)
theorem dL_law_821 : decode cL_law 821 = .ok (.ifCond .ne 15, 3) := dk_154 0 15 (dk_at dksL_law_29 4 rfl rfl)
theorem dL_law_824 : decode cL_law 824 = .ok (.aload_n 3, 1) := dk_45 (dk_at dksL_law_29 7 rfl rfl)
theorem dL_law_825 : decode cL_law 825 = .ok (.iconst 0, 1) := dk_3 (dk_at dksL_law_29 8 rfl rfl)
theorem dL_law_826 : decode cL_law 826 = .ok (.laload, 1) := dk_47 (dk_at dksL_law_29 9 rfl rfl)
theorem dL_law_827 : decode cL_law 827 = .ok (.iload 6, 2) := dk_21 6 (dk_at dksL_law_29 10 rfl rfl)
theorem dL_law_829 : decode cL_law 829 = .ok (.i2l, 1) := dk_133 (dk_at dksL_law_29 12 rfl rfl)
theorem dL_law_830 : decode cL_law 830 = .ok (.lcmp, 1) := dk_148 (dk_at dksL_law_29 13 rfl rfl)
theorem dL_law_831 : decode cL_law 831 = .ok (.ifCond .eq 5, 3) := dk_153 0 5 (dk_at dksL_law_29 14 rfl rfl)
theorem dL_law_834 : decode cL_law 834 = .ok (.iconst 0, 1) := dk_3 (dk_at dksL_law_29 17 rfl rfl)
theorem dL_law_835 : decode cL_law 835 = .ok (.ireturn, 1) := dk_172 (dk_at dksL_law_29 18 rfl rfl)
theorem dL_law_836 : decode cL_law 836 = .ok (.goto 1537, 3) := dk_167 6 1 (dk_at dksL_law_29 19 rfl rfl)
theorem dL_law_839 : decode cL_law 839 = .ok (.aload_n 1, 1) := dk_43 (dk_at dksL_law_29 22 rfl rfl)
theorem dL_law_840 : decode cL_law 840 = .ok (.aload_n 0, 1) := dk_42 (dk_at dksL_law_29 23 rfl rfl)
theorem dL_law_841 : decode cL_law 841 = .ok (.iload 4, 2) := dk_21 4 (dk_at dksL_law_30 0 rfl rfl)
theorem dL_law_843 : decode cL_law 843 = .ok (.iconst 1, 1) := dk_4 (dk_at dksL_law_30 2 rfl rfl)
theorem dL_law_844 : decode cL_law 844 = .ok (.iadd, 1) := dk_96 (dk_at dksL_law_30 3 rfl rfl)
theorem dL_law_845 : decode cL_law 845 = .ok (.iaload, 1) := dk_46 (dk_at dksL_law_30 4 rfl rfl)
theorem dL_law_846 : decode cL_law 846 = .ok (.aload_n 0, 1) := dk_42 (dk_at dksL_law_30 5 rfl rfl)
theorem dL_law_847 : decode cL_law 847 = .ok (.iload 4, 2) := dk_21 4 (dk_at dksL_law_30 6 rfl rfl)
theorem dL_law_849 : decode cL_law 849 = .ok (.iconst 2, 1) := dk_5 (dk_at dksL_law_30 8 rfl rfl)
theorem dL_law_850 : decode cL_law 850 = .ok (.iadd, 1) := dk_96 (dk_at dksL_law_30 9 rfl rfl)
theorem dL_law_851 : decode cL_law 851 = .ok (.iaload, 1) := dk_46 (dk_at dksL_law_30 10 rfl rfl)
theorem dL_law_852 : decode cL_law 852 = .ok (.aload_n 3, 1) := dk_45 (dk_at dksL_law_30 11 rfl rfl)
theorem dL_law_853 : decode cL_law 853 = .ok (.invokestatic 165, 3) := dk_184 0 165 (dk_at dksL_law_30 12 rfl rfl)
theorem dL_law_856 : decode cL_law 856 = .ok (.istore 5, 2) := dk_54 5 (dk_at dksL_law_30 15 rfl rfl)
theorem dL_law_858 : decode cL_law 858 = .ok (.aload_n 2, 1) := dk_44 (dk_at dksL_law_30 17 rfl rfl)
theorem dL_law_859 : decode cL_law 859 = .ok (.aload_n 0, 1) := dk_42 (dk_at dksL_law_30 18 rfl rfl)
theorem dL_law_860 : decode cL_law 860 = .ok (.iload 4, 2) := dk_21 4 (dk_at dksL_law_30 19 rfl rfl)
theorem dL_law_862 : decode cL_law 862 = .ok (.iconst 1, 1) := dk_4 (dk_at dksL_law_30 21 rfl rfl)
theorem dL_law_863 : decode cL_law 863 = .ok (.iadd, 1) := dk_96 (dk_at dksL_law_30 22 rfl rfl)
theorem dL_law_864 : decode cL_law 864 = .ok (.iaload, 1) := dk_46 (dk_at dksL_law_30 23 rfl rfl)
theorem dL_law_865 : decode cL_law 865 = .ok (.aload_n 0, 1) := dk_42 (dk_at dksL_law_31 0 rfl rfl)
theorem dL_law_866 : decode cL_law 866 = .ok (.iload 4, 2) := dk_21 4 (dk_at dksL_law_31 1 rfl rfl)
theorem dL_law_868 : decode cL_law 868 = .ok (.iconst 2, 1) := dk_5 (dk_at dksL_law_31 3 rfl rfl)
theorem dL_law_869 : decode cL_law 869 = .ok (.iadd, 1) := dk_96 (dk_at dksL_law_31 4 rfl rfl)
theorem dL_law_870 : decode cL_law 870 = .ok (.iaload, 1) := dk_46 (dk_at dksL_law_31 5 rfl rfl)
theorem dL_law_871 : decode cL_law 871 = .ok (.invokevirtual 167, 3) := dk_182 0 167 (dk_at dksL_law_31 6 rfl rfl)
theorem dL_law_874 : decode cL_law 874 = .ok (.istore 6, 2) := dk_54 6 (dk_at dksL_law_31 9 rfl rfl)
theorem dL_law_876 : decode cL_law 876 = .ok (.aload_n 2, 1) := dk_44 (dk_at dksL_law_31 11 rfl rfl)
theorem dL_law_877 : decode cL_law 877 = .ok (.invokevirtual 130, 3) := dk_182 0 130 (dk_at dksL_law_31 12 rfl rfl)
theorem dL_law_880 : decode cL_law 880 = .ok (.iload 5, 2) := dk_21 5 (dk_at dksL_law_31 15 rfl rfl)
theorem dL_law_882 : decode cL_law 882 = .ok (.if_icmp .eq 5, 3) := dk_159 0 5 (dk_at dksL_law_31 17 rfl rfl)
theorem dL_law_885 : decode cL_law 885 = .ok (.iconst 0, 1) := dk_3 (dk_at dksL_law_31 20 rfl rfl)
theorem dL_law_886 : decode cL_law 886 = .ok (.ireturn, 1) := dk_172 (dk_at dksL_law_31 21 rfl rfl)
theorem dL_law_887 : decode cL_law 887 = .ok (.iload 5, 2) := dk_21 5 (dk_at dksL_law_31 22 rfl rfl)
theorem dL_law_889 : decode cL_law 889 = .ok (.ifCond .ne 15, 3) := dk_154 0 15 (dk_at dksL_law_32 0 rfl rfl)
theorem dL_law_892 : decode cL_law 892 = .ok (.aload_n 3, 1) := dk_45 (dk_at dksL_law_32 3 rfl rfl)
theorem dL_law_893 : decode cL_law 893 = .ok (.iconst 0, 1) := dk_3 (dk_at dksL_law_32 4 rfl rfl)
theorem dL_law_894 : decode cL_law 894 = .ok (.laload, 1) := dk_47 (dk_at dksL_law_32 5 rfl rfl)
theorem dL_law_895 : decode cL_law 895 = .ok (.iload 6, 2) := dk_21 6 (dk_at dksL_law_32 6 rfl rfl)
theorem dL_law_897 : decode cL_law 897 = .ok (.i2l, 1) := dk_133 (dk_at dksL_law_32 8 rfl rfl)
theorem dL_law_898 : decode cL_law 898 = .ok (.lcmp, 1) := dk_148 (dk_at dksL_law_32 9 rfl rfl)
theorem dL_law_899 : decode cL_law 899 = .ok (.ifCond .eq 5, 3) := dk_153 0 5 (dk_at dksL_law_32 10 rfl rfl)
theorem dL_law_902 : decode cL_law 902 = .ok (.iconst 0, 1) := dk_3 (dk_at dksL_law_32 13 rfl rfl)
theorem dL_law_903 : decode cL_law 903 = .ok (.ireturn, 1) := dk_172 (dk_at dksL_law_32 14 rfl rfl)
theorem dL_law_904 : decode cL_law 904 = .ok (.goto 1469, 3) := dk_167 5 189 (dk_at dksL_law_32 15 rfl rfl)
theorem dL_law_907 : decode cL_law 907 = .ok (.aload_n 1, 1) := dk_43 (dk_at dksL_law_32 18 rfl rfl)
theorem dL_law_908 : decode cL_law 908 = .ok (.aload_n 3, 1) := dk_45 (dk_at dksL_law_32 19 rfl rfl)
theorem dL_law_909 : decode cL_law 909 = .ok (.invokestatic 168, 3) := dk_184 0 168 (dk_at dksL_law_32 20 rfl rfl)
theorem dL_law_912 : decode cL_law 912 = .ok (.istore 5, 2) := dk_54 5 (dk_at dksL_law_33 0 rfl rfl)
theorem dL_law_914 : decode cL_law 914 = .ok (.aload_n 2, 1) := dk_44 (dk_at dksL_law_33 2 rfl rfl)
theorem dL_law_915 : decode cL_law 915 = .ok (.invokevirtual 171, 3) := dk_182 0 171 (dk_at dksL_law_33 3 rfl rfl)
theorem dL_law_918 : decode cL_law 918 = .ok (.istore 6, 2) := dk_54 6 (dk_at dksL_law_33 6 rfl rfl)
theorem dL_law_920 : decode cL_law 920 = .ok (.aload_n 2, 1) := dk_44 (dk_at dksL_law_33 8 rfl rfl)
theorem dL_law_921 : decode cL_law 921 = .ok (.invokevirtual 130, 3) := dk_182 0 130 (dk_at dksL_law_33 9 rfl rfl)
theorem dL_law_924 : decode cL_law 924 = .ok (.iload 5, 2) := dk_21 5 (dk_at dksL_law_33 12 rfl rfl)
theorem dL_law_926 : decode cL_law 926 = .ok (.if_icmp .eq 5, 3) := dk_159 0 5 (dk_at dksL_law_33 14 rfl rfl)
theorem dL_law_929 : decode cL_law 929 = .ok (.iconst 0, 1) := dk_3 (dk_at dksL_law_33 17 rfl rfl)
theorem dL_law_930 : decode cL_law 930 = .ok (.ireturn, 1) := dk_172 (dk_at dksL_law_33 18 rfl rfl)
theorem dL_law_931 : decode cL_law 931 = .ok (.iload 5, 2) := dk_21 5 (dk_at dksL_law_33 19 rfl rfl)
theorem dL_law_933 : decode cL_law 933 = .ok (.ifCond .ne 15, 3) := dk_154 0 15 (dk_at dksL_law_33 21 rfl rfl)
theorem dL_law_936 : decode cL_law 936 = .ok (.aload_n 3, 1) := dk_45 (dk_at dksL_law_34 0 rfl rfl)
theorem dL_law_937 : decode cL_law 937 = .ok (.iconst 0, 1) := dk_3 (dk_at dksL_law_34 1 rfl rfl)
theorem dL_law_938 : decode cL_law 938 = .ok (.laload, 1) := dk_47 (dk_at dksL_law_34 2 rfl rfl)
theorem dL_law_939 : decode cL_law 939 = .ok (.iload 6, 2) := dk_21 6 (dk_at dksL_law_34 3 rfl rfl)
theorem dL_law_941 : decode cL_law 941 = .ok (.i2l, 1) := dk_133 (dk_at dksL_law_34 5 rfl rfl)
theorem dL_law_942 : decode cL_law 942 = .ok (.lcmp, 1) := dk_148 (dk_at dksL_law_34 6 rfl rfl)
theorem dL_law_943 : decode cL_law 943 = .ok (.ifCond .eq 5, 3) := dk_153 0 5 (dk_at dksL_law_34 7 rfl rfl)
theorem dL_law_946 : decode cL_law 946 = .ok (.iconst 0, 1) := dk_3 (dk_at dksL_law_34 10 rfl rfl)
theorem dL_law_947 : decode cL_law 947 = .ok (.ireturn, 1) := dk_172 (dk_at dksL_law_34 11 rfl rfl)
theorem dL_law_948 : decode cL_law 948 = .ok (.goto 1425, 3) := dk_167 5 145 (dk_at dksL_law_34 12 rfl rfl)
theorem dL_law_951 : decode cL_law 951 = .ok (.aload_n 1, 1) := dk_43 (dk_at dksL_law_34 15 rfl rfl)
theorem dL_law_952 : decode cL_law 952 = .ok (.aload_n 0, 1) := dk_42 (dk_at dksL_law_34 16 rfl rfl)
theorem dL_law_953 : decode cL_law 953 = .ok (.iload 4, 2) := dk_21 4 (dk_at dksL_law_34 17 rfl rfl)
theorem dL_law_955 : decode cL_law 955 = .ok (.iconst 1, 1) := dk_4 (dk_at dksL_law_34 19 rfl rfl)
theorem dL_law_956 : decode cL_law 956 = .ok (.iadd, 1) := dk_96 (dk_at dksL_law_34 20 rfl rfl)
theorem dL_law_957 : decode cL_law 957 = .ok (.iaload, 1) := dk_46 (dk_at dksL_law_34 21 rfl rfl)
theorem dL_law_958 : decode cL_law 958 = .ok (.aload_n 3, 1) := dk_45 (dk_at dksL_law_34 22 rfl rfl)
theorem dL_law_959 : decode cL_law 959 = .ok (.invokestatic 172, 3) := dk_184 0 172 (dk_at dksL_law_35 0 rfl rfl)
theorem dL_law_962 : decode cL_law 962 = .ok (.istore 5, 2) := dk_54 5 (dk_at dksL_law_35 3 rfl rfl)
theorem dL_law_964 : decode cL_law 964 = .ok (.aload_n 2, 1) := dk_44 (dk_at dksL_law_35 5 rfl rfl)
theorem dL_law_965 : decode cL_law 965 = .ok (.aload_n 0, 1) := dk_42 (dk_at dksL_law_35 6 rfl rfl)
theorem dL_law_966 : decode cL_law 966 = .ok (.iload 4, 2) := dk_21 4 (dk_at dksL_law_35 7 rfl rfl)
theorem dL_law_968 : decode cL_law 968 = .ok (.iconst 1, 1) := dk_4 (dk_at dksL_law_35 9 rfl rfl)
theorem dL_law_969 : decode cL_law 969 = .ok (.iadd, 1) := dk_96 (dk_at dksL_law_35 10 rfl rfl)
theorem dL_law_970 : decode cL_law 970 = .ok (.iaload, 1) := dk_46 (dk_at dksL_law_35 11 rfl rfl)
theorem dL_law_971 : decode cL_law 971 = .ok (.invokevirtual 174, 3) := dk_182 0 174 (dk_at dksL_law_35 12 rfl rfl)
theorem dL_law_974 : decode cL_law 974 = .ok (.istore 6, 2) := dk_54 6 (dk_at dksL_law_35 15 rfl rfl)
theorem dL_law_976 : decode cL_law 976 = .ok (.aload_n 2, 1) := dk_44 (dk_at dksL_law_35 17 rfl rfl)
theorem dL_law_977 : decode cL_law 977 = .ok (.invokevirtual 130, 3) := dk_182 0 130 (dk_at dksL_law_35 18 rfl rfl)
theorem dL_law_980 : decode cL_law 980 = .ok (.iload 5, 2) := dk_21 5 (dk_at dksL_law_35 21 rfl rfl)
theorem dL_law_982 : decode cL_law 982 = .ok (.if_icmp .eq 5, 3) := dk_159 0 5 (dk_at dksL_law_36 0 rfl rfl)
theorem dL_law_985 : decode cL_law 985 = .ok (.iconst 0, 1) := dk_3 (dk_at dksL_law_36 3 rfl rfl)
theorem dL_law_986 : decode cL_law 986 = .ok (.ireturn, 1) := dk_172 (dk_at dksL_law_36 4 rfl rfl)
theorem dL_law_987 : decode cL_law 987 = .ok (.iload 5, 2) := dk_21 5 (dk_at dksL_law_36 5 rfl rfl)
theorem dL_law_989 : decode cL_law 989 = .ok (.ifCond .ne 15, 3) := dk_154 0 15 (dk_at dksL_law_36 7 rfl rfl)
theorem dL_law_992 : decode cL_law 992 = .ok (.aload_n 3, 1) := dk_45 (dk_at dksL_law_36 10 rfl rfl)
theorem dL_law_993 : decode cL_law 993 = .ok (.iconst 0, 1) := dk_3 (dk_at dksL_law_36 11 rfl rfl)
theorem dL_law_994 : decode cL_law 994 = .ok (.laload, 1) := dk_47 (dk_at dksL_law_36 12 rfl rfl)
theorem dL_law_995 : decode cL_law 995 = .ok (.iload 6, 2) := dk_21 6 (dk_at dksL_law_36 13 rfl rfl)
theorem dL_law_997 : decode cL_law 997 = .ok (.i2l, 1) := dk_133 (dk_at dksL_law_36 15 rfl rfl)
theorem dL_law_998 : decode cL_law 998 = .ok (.lcmp, 1) := dk_148 (dk_at dksL_law_36 16 rfl rfl)
theorem dL_law_999 : decode cL_law 999 = .ok (.ifCond .eq 5, 3) := dk_153 0 5 (dk_at dksL_law_36 17 rfl rfl)
theorem dL_law_1002 : decode cL_law 1002 = .ok (.iconst 0, 1) := dk_3 (dk_at dksL_law_36 20 rfl rfl)
theorem dL_law_1003 : decode cL_law 1003 = .ok (.ireturn, 1) := dk_172 (dk_at dksL_law_36 21 rfl rfl)
theorem dL_law_1004 : decode cL_law 1004 = .ok (.goto 1369, 3) := dk_167 5 89 (dk_at dksL_law_37 0 rfl rfl)
theorem dL_law_1007 : decode cL_law 1007 = .ok (.aload_n 1, 1) := dk_43 (dk_at dksL_law_37 3 rfl rfl)
theorem dL_law_1008 : decode cL_law 1008 = .ok (.aload_n 0, 1) := dk_42 (dk_at dksL_law_37 4 rfl rfl)
theorem dL_law_1009 : decode cL_law 1009 = .ok (.iload 4, 2) := dk_21 4 (dk_at dksL_law_37 5 rfl rfl)
theorem dL_law_1011 : decode cL_law 1011 = .ok (.iconst 1, 1) := dk_4 (dk_at dksL_law_37 7 rfl rfl)
theorem dL_law_1012 : decode cL_law 1012 = .ok (.iadd, 1) := dk_96 (dk_at dksL_law_37 8 rfl rfl)
theorem dL_law_1013 : decode cL_law 1013 = .ok (.iaload, 1) := dk_46 (dk_at dksL_law_37 9 rfl rfl)
theorem dL_law_1014 : decode cL_law 1014 = .ok (.aload_n 3, 1) := dk_45 (dk_at dksL_law_37 10 rfl rfl)
theorem dL_law_1015 : decode cL_law 1015 = .ok (.invokestatic 175, 3) := dk_184 0 175 (dk_at dksL_law_37 11 rfl rfl)
theorem dL_law_1018 : decode cL_law 1018 = .ok (.istore 5, 2) := dk_54 5 (dk_at dksL_law_37 14 rfl rfl)
theorem dL_law_1020 : decode cL_law 1020 = .ok (.aload_n 2, 1) := dk_44 (dk_at dksL_law_37 16 rfl rfl)
theorem dL_law_1021 : decode cL_law 1021 = .ok (.aload_n 0, 1) := dk_42 (dk_at dksL_law_37 17 rfl rfl)
theorem dL_law_1022 : decode cL_law 1022 = .ok (.iload 4, 2) := dk_21 4 (dk_at dksL_law_37 18 rfl rfl)
theorem dL_law_1024 : decode cL_law 1024 = .ok (.iconst 1, 1) := dk_4 (dk_at dksL_law_37 20 rfl rfl)
theorem dL_law_1025 : decode cL_law 1025 = .ok (.iadd, 1) := dk_96 (dk_at dksL_law_37 21 rfl rfl)
theorem dL_law_1026 : decode cL_law 1026 = .ok (.iaload, 1) := dk_46 (dk_at dksL_law_37 22 rfl rfl)
theorem dL_law_1027 : decode cL_law 1027 = .ok (.invokevirtual 177, 3) := dk_182 0 177 (dk_at dksL_law_38 0 rfl rfl)
theorem dL_law_1030 : decode cL_law 1030 = .ok (.istore 6, 2) := dk_54 6 (dk_at dksL_law_38 3 rfl rfl)
theorem dL_law_1032 : decode cL_law 1032 = .ok (.aload_n 2, 1) := dk_44 (dk_at dksL_law_38 5 rfl rfl)
theorem dL_law_1033 : decode cL_law 1033 = .ok (.invokevirtual 130, 3) := dk_182 0 130 (dk_at dksL_law_38 6 rfl rfl)
theorem dL_law_1036 : decode cL_law 1036 = .ok (.iload 5, 2) := dk_21 5 (dk_at dksL_law_38 9 rfl rfl)
theorem dL_law_1038 : decode cL_law 1038 = .ok (.if_icmp .eq 5, 3) := dk_159 0 5 (dk_at dksL_law_38 11 rfl rfl)
theorem dL_law_1041 : decode cL_law 1041 = .ok (.iconst 0, 1) := dk_3 (dk_at dksL_law_38 14 rfl rfl)
theorem dL_law_1042 : decode cL_law 1042 = .ok (.ireturn, 1) := dk_172 (dk_at dksL_law_38 15 rfl rfl)
theorem dL_law_1043 : decode cL_law 1043 = .ok (.iload 5, 2) := dk_21 5 (dk_at dksL_law_38 16 rfl rfl)
theorem dL_law_1045 : decode cL_law 1045 = .ok (.ifCond .ne 15, 3) := dk_154 0 15 (dk_at dksL_law_38 18 rfl rfl)
theorem dL_law_1048 : decode cL_law 1048 = .ok (.aload_n 3, 1) := dk_45 (dk_at dksL_law_38 21 rfl rfl)
theorem dL_law_1049 : decode cL_law 1049 = .ok (.iconst 0, 1) := dk_3 (dk_at dksL_law_38 22 rfl rfl)
theorem dL_law_1050 : decode cL_law 1050 = .ok (.laload, 1) := dk_47 (dk_at dksL_law_38 23 rfl rfl)
theorem dL_law_1051 : decode cL_law 1051 = .ok (.iload 6, 2) := dk_21 6 (dk_at dksL_law_39 0 rfl rfl)
theorem dL_law_1053 : decode cL_law 1053 = .ok (.i2l, 1) := dk_133 (dk_at dksL_law_39 2 rfl rfl)
theorem dL_law_1054 : decode cL_law 1054 = .ok (.lcmp, 1) := dk_148 (dk_at dksL_law_39 3 rfl rfl)
theorem dL_law_1055 : decode cL_law 1055 = .ok (.ifCond .eq 5, 3) := dk_153 0 5 (dk_at dksL_law_39 4 rfl rfl)
theorem dL_law_1058 : decode cL_law 1058 = .ok (.iconst 0, 1) := dk_3 (dk_at dksL_law_39 7 rfl rfl)
theorem dL_law_1059 : decode cL_law 1059 = .ok (.ireturn, 1) := dk_172 (dk_at dksL_law_39 8 rfl rfl)
theorem dL_law_1060 : decode cL_law 1060 = .ok (.goto 1313, 3) := dk_167 5 33 (dk_at dksL_law_39 9 rfl rfl)
theorem dL_law_1063 : decode cL_law 1063 = .ok (.aload_n 1, 1) := dk_43 (dk_at dksL_law_39 12 rfl rfl)
theorem dL_law_1064 : decode cL_law 1064 = .ok (.aload_n 0, 1) := dk_42 (dk_at dksL_law_39 13 rfl rfl)
theorem dL_law_1065 : decode cL_law 1065 = .ok (.iload 4, 2) := dk_21 4 (dk_at dksL_law_39 14 rfl rfl)
theorem dL_law_1067 : decode cL_law 1067 = .ok (.iconst 1, 1) := dk_4 (dk_at dksL_law_39 16 rfl rfl)
theorem dL_law_1068 : decode cL_law 1068 = .ok (.iadd, 1) := dk_96 (dk_at dksL_law_39 17 rfl rfl)
theorem dL_law_1069 : decode cL_law 1069 = .ok (.iaload, 1) := dk_46 (dk_at dksL_law_39 18 rfl rfl)
theorem dL_law_1070 : decode cL_law 1070 = .ok (.aload_n 3, 1) := dk_45 (dk_at dksL_law_39 19 rfl rfl)
theorem dL_law_1071 : decode cL_law 1071 = .ok (.invokestatic 178, 3) := dk_184 0 178 (dk_at dksL_law_39 20 rfl rfl)
theorem dL_law_1074 : decode cL_law 1074 = .ok (.istore 5, 2) := dk_54 5 (dk_at dksL_law_40 0 rfl rfl)
theorem dL_law_1076 : decode cL_law 1076 = .ok (.aload_n 2, 1) := dk_44 (dk_at dksL_law_40 2 rfl rfl)
theorem dL_law_1077 : decode cL_law 1077 = .ok (.aload_n 0, 1) := dk_42 (dk_at dksL_law_40 3 rfl rfl)
theorem dL_law_1078 : decode cL_law 1078 = .ok (.iload 4, 2) := dk_21 4 (dk_at dksL_law_40 4 rfl rfl)
theorem dL_law_1080 : decode cL_law 1080 = .ok (.iconst 1, 1) := dk_4 (dk_at dksL_law_40 6 rfl rfl)
theorem dL_law_1081 : decode cL_law 1081 = .ok (.iadd, 1) := dk_96 (dk_at dksL_law_40 7 rfl rfl)
theorem dL_law_1082 : decode cL_law 1082 = .ok (.iaload, 1) := dk_46 (dk_at dksL_law_40 8 rfl rfl)
theorem dL_law_1083 : decode cL_law 1083 = .ok (.invokevirtual 180, 3) := dk_182 0 180 (dk_at dksL_law_40 9 rfl rfl)
theorem dL_law_1086 : decode cL_law 1086 = .ok (.istore 6, 2) := dk_54 6 (dk_at dksL_law_40 12 rfl rfl)
theorem dL_law_1088 : decode cL_law 1088 = .ok (.aload_n 2, 1) := dk_44 (dk_at dksL_law_40 14 rfl rfl)
theorem dL_law_1089 : decode cL_law 1089 = .ok (.invokevirtual 130, 3) := dk_182 0 130 (dk_at dksL_law_40 15 rfl rfl)
theorem dL_law_1092 : decode cL_law 1092 = .ok (.iload 5, 2) := dk_21 5 (dk_at dksL_law_40 18 rfl rfl)
theorem dL_law_1094 : decode cL_law 1094 = .ok (.if_icmp .eq 5, 3) := dk_159 0 5 (dk_at dksL_law_40 20 rfl rfl)
theorem dL_law_1097 : decode cL_law 1097 = .ok (.iconst 0, 1) := dk_3 (dk_at dksL_law_40 23 rfl rfl)
theorem dL_law_1098 : decode cL_law 1098 = .ok (.ireturn, 1) := dk_172 (dk_at dksL_law_41 0 rfl rfl)
theorem dL_law_1099 : decode cL_law 1099 = .ok (.iload 5, 2) := dk_21 5 (dk_at dksL_law_41 1 rfl rfl)
theorem dL_law_1101 : decode cL_law 1101 = .ok (.ifCond .ne 15, 3) := dk_154 0 15 (dk_at dksL_law_41 3 rfl rfl)
theorem dL_law_1104 : decode cL_law 1104 = .ok (.aload_n 3, 1) := dk_45 (dk_at dksL_law_41 6 rfl rfl)
theorem dL_law_1105 : decode cL_law 1105 = .ok (.iconst 0, 1) := dk_3 (dk_at dksL_law_41 7 rfl rfl)
theorem dL_law_1106 : decode cL_law 1106 = .ok (.laload, 1) := dk_47 (dk_at dksL_law_41 8 rfl rfl)
theorem dL_law_1107 : decode cL_law 1107 = .ok (.iload 6, 2) := dk_21 6 (dk_at dksL_law_41 9 rfl rfl)
theorem dL_law_1109 : decode cL_law 1109 = .ok (.i2l, 1) := dk_133 (dk_at dksL_law_41 11 rfl rfl)
theorem dL_law_1110 : decode cL_law 1110 = .ok (.lcmp, 1) := dk_148 (dk_at dksL_law_41 12 rfl rfl)
theorem dL_law_1111 : decode cL_law 1111 = .ok (.ifCond .eq 5, 3) := dk_153 0 5 (dk_at dksL_law_41 13 rfl rfl)
theorem dL_law_1114 : decode cL_law 1114 = .ok (.iconst 0, 1) := dk_3 (dk_at dksL_law_41 16 rfl rfl)
theorem dL_law_1115 : decode cL_law 1115 = .ok (.ireturn, 1) := dk_172 (dk_at dksL_law_41 17 rfl rfl)
theorem dL_law_1116 : decode cL_law 1116 = .ok (.goto 1257, 3) := dk_167 4 233 (dk_at dksL_law_41 18 rfl rfl)
theorem dL_law_1119 : decode cL_law 1119 = .ok (.aload_n 1, 1) := dk_43 (dk_at dksL_law_41 21 rfl rfl)
theorem dL_law_1120 : decode cL_law 1120 = .ok (.aload_n 0, 1) := dk_42 (dk_at dksL_law_41 22 rfl rfl)
theorem dL_law_1121 : decode cL_law 1121 = .ok (.iload 4, 2) := dk_21 4 (dk_at dksL_law_42 0 rfl rfl)
theorem dL_law_1123 : decode cL_law 1123 = .ok (.iconst 1, 1) := dk_4 (dk_at dksL_law_42 2 rfl rfl)
theorem dL_law_1124 : decode cL_law 1124 = .ok (.iadd, 1) := dk_96 (dk_at dksL_law_42 3 rfl rfl)
theorem dL_law_1125 : decode cL_law 1125 = .ok (.iaload, 1) := dk_46 (dk_at dksL_law_42 4 rfl rfl)
theorem dL_law_1126 : decode cL_law 1126 = .ok (.aload_n 0, 1) := dk_42 (dk_at dksL_law_42 5 rfl rfl)
theorem dL_law_1127 : decode cL_law 1127 = .ok (.iload 4, 2) := dk_21 4 (dk_at dksL_law_42 6 rfl rfl)
theorem dL_law_1129 : decode cL_law 1129 = .ok (.iconst 2, 1) := dk_5 (dk_at dksL_law_42 8 rfl rfl)
theorem dL_law_1130 : decode cL_law 1130 = .ok (.iadd, 1) := dk_96 (dk_at dksL_law_42 9 rfl rfl)
theorem dL_law_1131 : decode cL_law 1131 = .ok (.iaload, 1) := dk_46 (dk_at dksL_law_42 10 rfl rfl)
theorem dL_law_1132 : decode cL_law 1132 = .ok (.aload_n 3, 1) := dk_45 (dk_at dksL_law_42 11 rfl rfl)
theorem dL_law_1133 : decode cL_law 1133 = .ok (.invokestatic 181, 3) := dk_184 0 181 (dk_at dksL_law_42 12 rfl rfl)
theorem dL_law_1136 : decode cL_law 1136 = .ok (.istore 5, 2) := dk_54 5 (dk_at dksL_law_42 15 rfl rfl)
theorem dL_law_1138 : decode cL_law 1138 = .ok (.aload_n 2, 1) := dk_44 (dk_at dksL_law_42 17 rfl rfl)
theorem dL_law_1139 : decode cL_law 1139 = .ok (.aload_n 0, 1) := dk_42 (dk_at dksL_law_42 18 rfl rfl)
theorem dL_law_1140 : decode cL_law 1140 = .ok (.iload 4, 2) := dk_21 4 (dk_at dksL_law_42 19 rfl rfl)
theorem dL_law_1142 : decode cL_law 1142 = .ok (.iconst 1, 1) := dk_4 (dk_at dksL_law_42 21 rfl rfl)
theorem dL_law_1143 : decode cL_law 1143 = .ok (.iadd, 1) := dk_96 (dk_at dksL_law_42 22 rfl rfl)
theorem dL_law_1144 : decode cL_law 1144 = .ok (.iaload, 1) := dk_46 (dk_at dksL_law_42 23 rfl rfl)
theorem dL_law_1145 : decode cL_law 1145 = .ok (.aload_n 0, 1) := dk_42 (dk_at dksL_law_43 0 rfl rfl)
theorem dL_law_1146 : decode cL_law 1146 = .ok (.iload 4, 2) := dk_21 4 (dk_at dksL_law_43 1 rfl rfl)
theorem dL_law_1148 : decode cL_law 1148 = .ok (.iconst 2, 1) := dk_5 (dk_at dksL_law_43 3 rfl rfl)
theorem dL_law_1149 : decode cL_law 1149 = .ok (.iadd, 1) := dk_96 (dk_at dksL_law_43 4 rfl rfl)
theorem dL_law_1150 : decode cL_law 1150 = .ok (.iaload, 1) := dk_46 (dk_at dksL_law_43 5 rfl rfl)
theorem dL_law_1151 : decode cL_law 1151 = .ok (.invokevirtual 183, 3) := dk_182 0 183 (dk_at dksL_law_43 6 rfl rfl)
theorem dL_law_1154 : decode cL_law 1154 = .ok (.istore 6, 2) := dk_54 6 (dk_at dksL_law_43 9 rfl rfl)
theorem dL_law_1156 : decode cL_law 1156 = .ok (.aload_n 2, 1) := dk_44 (dk_at dksL_law_43 11 rfl rfl)
theorem dL_law_1157 : decode cL_law 1157 = .ok (.invokevirtual 130, 3) := dk_182 0 130 (dk_at dksL_law_43 12 rfl rfl)
theorem dL_law_1160 : decode cL_law 1160 = .ok (.iload 5, 2) := dk_21 5 (dk_at dksL_law_43 15 rfl rfl)
theorem dL_law_1162 : decode cL_law 1162 = .ok (.if_icmp .eq 5, 3) := dk_159 0 5 (dk_at dksL_law_43 17 rfl rfl)
theorem dL_law_1165 : decode cL_law 1165 = .ok (.iconst 0, 1) := dk_3 (dk_at dksL_law_43 20 rfl rfl)
theorem dL_law_1166 : decode cL_law 1166 = .ok (.ireturn, 1) := dk_172 (dk_at dksL_law_43 21 rfl rfl)
theorem dL_law_1167 : decode cL_law 1167 = .ok (.iload 5, 2) := dk_21 5 (dk_at dksL_law_43 22 rfl rfl)
theorem dL_law_1169 : decode cL_law 1169 = .ok (.ifCond .ne 15, 3) := dk_154 0 15 (dk_at dksL_law_44 0 rfl rfl)
theorem dL_law_1172 : decode cL_law 1172 = .ok (.aload_n 3, 1) := dk_45 (dk_at dksL_law_44 3 rfl rfl)
theorem dL_law_1173 : decode cL_law 1173 = .ok (.iconst 0, 1) := dk_3 (dk_at dksL_law_44 4 rfl rfl)
theorem dL_law_1174 : decode cL_law 1174 = .ok (.laload, 1) := dk_47 (dk_at dksL_law_44 5 rfl rfl)
theorem dL_law_1175 : decode cL_law 1175 = .ok (.iload 6, 2) := dk_21 6 (dk_at dksL_law_44 6 rfl rfl)
theorem dL_law_1177 : decode cL_law 1177 = .ok (.i2l, 1) := dk_133 (dk_at dksL_law_44 8 rfl rfl)
theorem dL_law_1178 : decode cL_law 1178 = .ok (.lcmp, 1) := dk_148 (dk_at dksL_law_44 9 rfl rfl)
theorem dL_law_1179 : decode cL_law 1179 = .ok (.ifCond .eq 5, 3) := dk_153 0 5 (dk_at dksL_law_44 10 rfl rfl)
theorem dL_law_1182 : decode cL_law 1182 = .ok (.iconst 0, 1) := dk_3 (dk_at dksL_law_44 13 rfl rfl)
theorem dL_law_1183 : decode cL_law 1183 = .ok (.ireturn, 1) := dk_172 (dk_at dksL_law_44 14 rfl rfl)
theorem dL_law_1184 : decode cL_law 1184 = .ok (.goto 1189, 3) := dk_167 4 165 (dk_at dksL_law_44 15 rfl rfl)
theorem dL_law_1187 : decode cL_law 1187 = .ok (.aload_n 1, 1) := dk_43 (dk_at dksL_law_44 18 rfl rfl)
theorem dL_law_1188 : decode cL_law 1188 = .ok (.aload_n 0, 1) := dk_42 (dk_at dksL_law_44 19 rfl rfl)
theorem dL_law_1189 : decode cL_law 1189 = .ok (.iload 4, 2) := dk_21 4 (dk_at dksL_law_44 20 rfl rfl)
theorem dL_law_1191 : decode cL_law 1191 = .ok (.iconst 1, 1) := dk_4 (dk_at dksL_law_44 22 rfl rfl)
theorem dL_law_1192 : decode cL_law 1192 = .ok (.iadd, 1) := dk_96 (dk_at dksL_law_44 23 rfl rfl)
theorem dL_law_1193 : decode cL_law 1193 = .ok (.iaload, 1) := dk_46 (dk_at dksL_law_45 0 rfl rfl)
theorem dL_law_1194 : decode cL_law 1194 = .ok (.aload_n 0, 1) := dk_42 (dk_at dksL_law_45 1 rfl rfl)
theorem dL_law_1195 : decode cL_law 1195 = .ok (.iload 4, 2) := dk_21 4 (dk_at dksL_law_45 2 rfl rfl)
theorem dL_law_1197 : decode cL_law 1197 = .ok (.iconst 2, 1) := dk_5 (dk_at dksL_law_45 4 rfl rfl)
theorem dL_law_1198 : decode cL_law 1198 = .ok (.iadd, 1) := dk_96 (dk_at dksL_law_45 5 rfl rfl)
theorem dL_law_1199 : decode cL_law 1199 = .ok (.iaload, 1) := dk_46 (dk_at dksL_law_45 6 rfl rfl)
theorem dL_law_1200 : decode cL_law 1200 = .ok (.aload_n 3, 1) := dk_45 (dk_at dksL_law_45 7 rfl rfl)
theorem dL_law_1201 : decode cL_law 1201 = .ok (.invokestatic 184, 3) := dk_184 0 184 (dk_at dksL_law_45 8 rfl rfl)
theorem dL_law_1204 : decode cL_law 1204 = .ok (.istore 5, 2) := dk_54 5 (dk_at dksL_law_45 11 rfl rfl)
theorem dL_law_1206 : decode cL_law 1206 = .ok (.aload_n 2, 1) := dk_44 (dk_at dksL_law_45 13 rfl rfl)
theorem dL_law_1207 : decode cL_law 1207 = .ok (.aload_n 0, 1) := dk_42 (dk_at dksL_law_45 14 rfl rfl)
theorem dL_law_1208 : decode cL_law 1208 = .ok (.iload 4, 2) := dk_21 4 (dk_at dksL_law_45 15 rfl rfl)
theorem dL_law_1210 : decode cL_law 1210 = .ok (.iconst 1, 1) := dk_4 (dk_at dksL_law_45 17 rfl rfl)
theorem dL_law_1211 : decode cL_law 1211 = .ok (.iadd, 1) := dk_96 (dk_at dksL_law_45 18 rfl rfl)
theorem dL_law_1212 : decode cL_law 1212 = .ok (.iaload, 1) := dk_46 (dk_at dksL_law_45 19 rfl rfl)
theorem dL_law_1213 : decode cL_law 1213 = .ok (.aload_n 0, 1) := dk_42 (dk_at dksL_law_45 20 rfl rfl)
theorem dL_law_1214 : decode cL_law 1214 = .ok (.iload 4, 2) := dk_21 4 (dk_at dksL_law_45 21 rfl rfl)
theorem dL_law_1216 : decode cL_law 1216 = .ok (.iconst 2, 1) := dk_5 (dk_at dksL_law_45 23 rfl rfl)
theorem dL_law_1217 : decode cL_law 1217 = .ok (.iadd, 1) := dk_96 (dk_at dksL_law_46 0 rfl rfl)
theorem dL_law_1218 : decode cL_law 1218 = .ok (.iaload, 1) := dk_46 (dk_at dksL_law_46 1 rfl rfl)
theorem dL_law_1219 : decode cL_law 1219 = .ok (.invokevirtual 186, 3) := dk_182 0 186 (dk_at dksL_law_46 2 rfl rfl)
theorem dL_law_1222 : decode cL_law 1222 = .ok (.istore 6, 2) := dk_54 6 (dk_at dksL_law_46 5 rfl rfl)
theorem dL_law_1224 : decode cL_law 1224 = .ok (.aload_n 2, 1) := dk_44 (dk_at dksL_law_46 7 rfl rfl)
theorem dL_law_1225 : decode cL_law 1225 = .ok (.invokevirtual 130, 3) := dk_182 0 130 (dk_at dksL_law_46 8 rfl rfl)
theorem dL_law_1228 : decode cL_law 1228 = .ok (.iload 5, 2) := dk_21 5 (dk_at dksL_law_46 11 rfl rfl)
theorem dL_law_1230 : decode cL_law 1230 = .ok (.if_icmp .eq 5, 3) := dk_159 0 5 (dk_at dksL_law_46 13 rfl rfl)
theorem dL_law_1233 : decode cL_law 1233 = .ok (.iconst 0, 1) := dk_3 (dk_at dksL_law_46 16 rfl rfl)
theorem dL_law_1234 : decode cL_law 1234 = .ok (.ireturn, 1) := dk_172 (dk_at dksL_law_46 17 rfl rfl)
theorem dL_law_1235 : decode cL_law 1235 = .ok (.iload 5, 2) := dk_21 5 (dk_at dksL_law_46 18 rfl rfl)
theorem dL_law_1237 : decode cL_law 1237 = .ok (.ifCond .ne 15, 3) := dk_154 0 15 (dk_at dksL_law_46 20 rfl rfl)
theorem dL_law_1240 : decode cL_law 1240 = .ok (.aload_n 3, 1) := dk_45 (dk_at dksL_law_46 23 rfl rfl)
theorem dL_law_1241 : decode cL_law 1241 = .ok (.iconst 0, 1) := dk_3 (dk_at dksL_law_47 0 rfl rfl)
theorem dL_law_1242 : decode cL_law 1242 = .ok (.laload, 1) := dk_47 (dk_at dksL_law_47 1 rfl rfl)
theorem dL_law_1243 : decode cL_law 1243 = .ok (.iload 6, 2) := dk_21 6 (dk_at dksL_law_47 2 rfl rfl)
theorem dL_law_1245 : decode cL_law 1245 = .ok (.i2l, 1) := dk_133 (dk_at dksL_law_47 4 rfl rfl)
theorem dL_law_1246 : decode cL_law 1246 = .ok (.lcmp, 1) := dk_148 (dk_at dksL_law_47 5 rfl rfl)
theorem dL_law_1247 : decode cL_law 1247 = .ok (.ifCond .eq 5, 3) := dk_153 0 5 (dk_at dksL_law_47 6 rfl rfl)
theorem dL_law_1250 : decode cL_law 1250 = .ok (.iconst 0, 1) := dk_3 (dk_at dksL_law_47 9 rfl rfl)
theorem dL_law_1251 : decode cL_law 1251 = .ok (.ireturn, 1) := dk_172 (dk_at dksL_law_47 10 rfl rfl)
theorem dL_law_1252 : decode cL_law 1252 = .ok (.goto 1121, 3) := dk_167 4 97 (dk_at dksL_law_47 11 rfl rfl)
theorem dL_law_1255 : decode cL_law 1255 = .ok (.aload_n 1, 1) := dk_43 (dk_at dksL_law_47 14 rfl rfl)
theorem dL_law_1256 : decode cL_law 1256 = .ok (.aload_n 0, 1) := dk_42 (dk_at dksL_law_47 15 rfl rfl)
theorem dL_law_1257 : decode cL_law 1257 = .ok (.iload 4, 2) := dk_21 4 (dk_at dksL_law_47 16 rfl rfl)
theorem dL_law_1259 : decode cL_law 1259 = .ok (.iconst 1, 1) := dk_4 (dk_at dksL_law_47 18 rfl rfl)
theorem dL_law_1260 : decode cL_law 1260 = .ok (.iadd, 1) := dk_96 (dk_at dksL_law_47 19 rfl rfl)
theorem dL_law_1261 : decode cL_law 1261 = .ok (.iaload, 1) := dk_46 (dk_at dksL_law_47 20 rfl rfl)
theorem dL_law_1262 : decode cL_law 1262 = .ok (.aload_n 0, 1) := dk_42 (dk_at dksL_law_47 21 rfl rfl)
theorem dL_law_1263 : decode cL_law 1263 = .ok (.iload 4, 2) := dk_21 4 (dk_at dksL_law_47 22 rfl rfl)
theorem dL_law_1265 : decode cL_law 1265 = .ok (.iconst 2, 1) := dk_5 (dk_at dksL_law_48 0 rfl rfl)
theorem dL_law_1266 : decode cL_law 1266 = .ok (.iadd, 1) := dk_96 (dk_at dksL_law_48 1 rfl rfl)
theorem dL_law_1267 : decode cL_law 1267 = .ok (.iaload, 1) := dk_46 (dk_at dksL_law_48 2 rfl rfl)
theorem dL_law_1268 : decode cL_law 1268 = .ok (.aload_n 3, 1) := dk_45 (dk_at dksL_law_48 3 rfl rfl)
theorem dL_law_1269 : decode cL_law 1269 = .ok (.invokestatic 187, 3) := dk_184 0 187 (dk_at dksL_law_48 4 rfl rfl)
theorem dL_law_1272 : decode cL_law 1272 = .ok (.istore 5, 2) := dk_54 5 (dk_at dksL_law_48 7 rfl rfl)
theorem dL_law_1274 : decode cL_law 1274 = .ok (.aload_n 2, 1) := dk_44 (dk_at dksL_law_48 9 rfl rfl)
theorem dL_law_1275 : decode cL_law 1275 = .ok (.aload_n 0, 1) := dk_42 (dk_at dksL_law_48 10 rfl rfl)
theorem dL_law_1276 : decode cL_law 1276 = .ok (.iload 4, 2) := dk_21 4 (dk_at dksL_law_48 11 rfl rfl)
theorem dL_law_1278 : decode cL_law 1278 = .ok (.iconst 1, 1) := dk_4 (dk_at dksL_law_48 13 rfl rfl)
theorem dL_law_1279 : decode cL_law 1279 = .ok (.iadd, 1) := dk_96 (dk_at dksL_law_48 14 rfl rfl)
theorem dL_law_1280 : decode cL_law 1280 = .ok (.iaload, 1) := dk_46 (dk_at dksL_law_48 15 rfl rfl)
theorem dL_law_1281 : decode cL_law 1281 = .ok (.aload_n 0, 1) := dk_42 (dk_at dksL_law_48 16 rfl rfl)
theorem dL_law_1282 : decode cL_law 1282 = .ok (.iload 4, 2) := dk_21 4 (dk_at dksL_law_48 17 rfl rfl)
theorem dL_law_1284 : decode cL_law 1284 = .ok (.iconst 2, 1) := dk_5 (dk_at dksL_law_48 19 rfl rfl)
theorem dL_law_1285 : decode cL_law 1285 = .ok (.iadd, 1) := dk_96 (dk_at dksL_law_48 20 rfl rfl)
theorem dL_law_1286 : decode cL_law 1286 = .ok (.iaload, 1) := dk_46 (dk_at dksL_law_48 21 rfl rfl)
theorem dL_law_1287 : decode cL_law 1287 = .ok (.invokevirtual 189, 3) := dk_182 0 189 (dk_at dksL_law_49 0 rfl rfl)
theorem dL_law_1290 : decode cL_law 1290 = .ok (.istore 6, 2) := dk_54 6 (dk_at dksL_law_49 3 rfl rfl)
theorem dL_law_1292 : decode cL_law 1292 = .ok (.aload_n 2, 1) := dk_44 (dk_at dksL_law_49 5 rfl rfl)
theorem dL_law_1293 : decode cL_law 1293 = .ok (.invokevirtual 130, 3) := dk_182 0 130 (dk_at dksL_law_49 6 rfl rfl)
theorem dL_law_1296 : decode cL_law 1296 = .ok (.iload 5, 2) := dk_21 5 (dk_at dksL_law_49 9 rfl rfl)
theorem dL_law_1298 : decode cL_law 1298 = .ok (.if_icmp .eq 5, 3) := dk_159 0 5 (dk_at dksL_law_49 11 rfl rfl)
theorem dL_law_1301 : decode cL_law 1301 = .ok (.iconst 0, 1) := dk_3 (dk_at dksL_law_49 14 rfl rfl)
theorem dL_law_1302 : decode cL_law 1302 = .ok (.ireturn, 1) := dk_172 (dk_at dksL_law_49 15 rfl rfl)
theorem dL_law_1303 : decode cL_law 1303 = .ok (.iload 5, 2) := dk_21 5 (dk_at dksL_law_49 16 rfl rfl)
theorem dL_law_1305 : decode cL_law 1305 = .ok (.ifCond .ne 15, 3) := dk_154 0 15 (dk_at dksL_law_49 18 rfl rfl)
theorem dL_law_1308 : decode cL_law 1308 = .ok (.aload_n 3, 1) := dk_45 (dk_at dksL_law_49 21 rfl rfl)
theorem dL_law_1309 : decode cL_law 1309 = .ok (.iconst 0, 1) := dk_3 (dk_at dksL_law_49 22 rfl rfl)
theorem dL_law_1310 : decode cL_law 1310 = .ok (.laload, 1) := dk_47 (dk_at dksL_law_49 23 rfl rfl)
theorem dL_law_1311 : decode cL_law 1311 = .ok (.iload 6, 2) := dk_21 6 (dk_at dksL_law_50 0 rfl rfl)
theorem dL_law_1313 : decode cL_law 1313 = .ok (.i2l, 1) := dk_133 (dk_at dksL_law_50 2 rfl rfl)
theorem dL_law_1314 : decode cL_law 1314 = .ok (.lcmp, 1) := dk_148 (dk_at dksL_law_50 3 rfl rfl)
theorem dL_law_1315 : decode cL_law 1315 = .ok (.ifCond .eq 5, 3) := dk_153 0 5 (dk_at dksL_law_50 4 rfl rfl)
theorem dL_law_1318 : decode cL_law 1318 = .ok (.iconst 0, 1) := dk_3 (dk_at dksL_law_50 7 rfl rfl)
theorem dL_law_1319 : decode cL_law 1319 = .ok (.ireturn, 1) := dk_172 (dk_at dksL_law_50 8 rfl rfl)
theorem dL_law_1320 : decode cL_law 1320 = .ok (.goto 1053, 3) := dk_167 4 29 (dk_at dksL_law_50 9 rfl rfl)
theorem dL_law_1323 : decode cL_law 1323 = .ok (.aload_n 1, 1) := dk_43 (dk_at dksL_law_50 12 rfl rfl)
theorem dL_law_1324 : decode cL_law 1324 = .ok (.aload_n 0, 1) := dk_42 (dk_at dksL_law_50 13 rfl rfl)
theorem dL_law_1325 : decode cL_law 1325 = .ok (.iload 4, 2) := dk_21 4 (dk_at dksL_law_50 14 rfl rfl)
theorem dL_law_1327 : decode cL_law 1327 = .ok (.iconst 1, 1) := dk_4 (dk_at dksL_law_50 16 rfl rfl)
theorem dL_law_1328 : decode cL_law 1328 = .ok (.iadd, 1) := dk_96 (dk_at dksL_law_50 17 rfl rfl)
theorem dL_law_1329 : decode cL_law 1329 = .ok (.iaload, 1) := dk_46 (dk_at dksL_law_50 18 rfl rfl)
theorem dL_law_1330 : decode cL_law 1330 = .ok (.aload_n 3, 1) := dk_45 (dk_at dksL_law_50 19 rfl rfl)
theorem dL_law_1331 : decode cL_law 1331 = .ok (.invokestatic 190, 3) := dk_184 0 190 (dk_at dksL_law_50 20 rfl rfl)
theorem dL_law_1334 : decode cL_law 1334 = .ok (.istore 5, 2) := dk_54 5 (dk_at dksL_law_51 0 rfl rfl)
theorem dL_law_1336 : decode cL_law 1336 = .ok (.aload_n 2, 1) := dk_44 (dk_at dksL_law_51 2 rfl rfl)
theorem dL_law_1337 : decode cL_law 1337 = .ok (.aload_n 0, 1) := dk_42 (dk_at dksL_law_51 3 rfl rfl)
theorem dL_law_1338 : decode cL_law 1338 = .ok (.iload 4, 2) := dk_21 4 (dk_at dksL_law_51 4 rfl rfl)
theorem dL_law_1340 : decode cL_law 1340 = .ok (.iconst 1, 1) := dk_4 (dk_at dksL_law_51 6 rfl rfl)
theorem dL_law_1341 : decode cL_law 1341 = .ok (.iadd, 1) := dk_96 (dk_at dksL_law_51 7 rfl rfl)
theorem dL_law_1342 : decode cL_law 1342 = .ok (.iaload, 1) := dk_46 (dk_at dksL_law_51 8 rfl rfl)
theorem dL_law_1343 : decode cL_law 1343 = .ok (.invokevirtual 192, 3) := dk_182 0 192 (dk_at dksL_law_51 9 rfl rfl)
theorem dL_law_1346 : decode cL_law 1346 = .ok (.lstore 6, 2) := dk_55 6 (dk_at dksL_law_51 12 rfl rfl)
theorem dL_law_1348 : decode cL_law 1348 = .ok (.aload_n 2, 1) := dk_44 (dk_at dksL_law_51 14 rfl rfl)
theorem dL_law_1349 : decode cL_law 1349 = .ok (.invokevirtual 130, 3) := dk_182 0 130 (dk_at dksL_law_51 15 rfl rfl)
theorem dL_law_1352 : decode cL_law 1352 = .ok (.iload 5, 2) := dk_21 5 (dk_at dksL_law_51 18 rfl rfl)
theorem dL_law_1354 : decode cL_law 1354 = .ok (.if_icmp .eq 5, 3) := dk_159 0 5 (dk_at dksL_law_51 20 rfl rfl)
theorem dL_law_1357 : decode cL_law 1357 = .ok (.iconst 0, 1) := dk_3 (dk_at dksL_law_51 23 rfl rfl)
theorem dL_law_1358 : decode cL_law 1358 = .ok (.ireturn, 1) := dk_172 (dk_at dksL_law_52 0 rfl rfl)
theorem dL_law_1359 : decode cL_law 1359 = .ok (.iload 5, 2) := dk_21 5 (dk_at dksL_law_52 1 rfl rfl)
theorem dL_law_1361 : decode cL_law 1361 = .ok (.ifCond .ne 14, 3) := dk_154 0 14 (dk_at dksL_law_52 3 rfl rfl)
theorem dL_law_1364 : decode cL_law 1364 = .ok (.aload_n 3, 1) := dk_45 (dk_at dksL_law_52 6 rfl rfl)
theorem dL_law_1365 : decode cL_law 1365 = .ok (.iconst 0, 1) := dk_3 (dk_at dksL_law_52 7 rfl rfl)
theorem dL_law_1366 : decode cL_law 1366 = .ok (.laload, 1) := dk_47 (dk_at dksL_law_52 8 rfl rfl)
theorem dL_law_1367 : decode cL_law 1367 = .ok (.lload 6, 2) := dk_22 6 (dk_at dksL_law_52 9 rfl rfl)
theorem dL_law_1369 : decode cL_law 1369 = .ok (.lcmp, 1) := dk_148 (dk_at dksL_law_52 11 rfl rfl)
theorem dL_law_1370 : decode cL_law 1370 = .ok (.ifCond .eq 5, 3) := dk_153 0 5 (dk_at dksL_law_52 12 rfl rfl)
theorem dL_law_1373 : decode cL_law 1373 = .ok (.iconst 0, 1) := dk_3 (dk_at dksL_law_52 15 rfl rfl)
theorem dL_law_1374 : decode cL_law 1374 = .ok (.ireturn, 1) := dk_172 (dk_at dksL_law_52 16 rfl rfl)
theorem dL_law_1375 : decode cL_law 1375 = .ok (.goto 998, 3) := dk_167 3 230 (dk_at dksL_law_52 17 rfl rfl)
theorem dL_law_1378 : decode cL_law 1378 = .ok (.aload_n 1, 1) := dk_43 (dk_at dksL_law_52 20 rfl rfl)
theorem dL_law_1379 : decode cL_law 1379 = .ok (.aload_n 0, 1) := dk_42 (dk_at dksL_law_52 21 rfl rfl)
theorem dL_law_1380 : decode cL_law 1380 = .ok (.iload 4, 2) := dk_21 4 (dk_at dksL_law_52 22 rfl rfl)
theorem dL_law_1382 : decode cL_law 1382 = .ok (.iconst 1, 1) := dk_4 (dk_at dksL_law_53 0 rfl rfl)
theorem dL_law_1383 : decode cL_law 1383 = .ok (.iadd, 1) := dk_96 (dk_at dksL_law_53 1 rfl rfl)
theorem dL_law_1384 : decode cL_law 1384 = .ok (.iaload, 1) := dk_46 (dk_at dksL_law_53 2 rfl rfl)
theorem dL_law_1385 : decode cL_law 1385 = .ok (.aload_n 0, 1) := dk_42 (dk_at dksL_law_53 3 rfl rfl)
theorem dL_law_1386 : decode cL_law 1386 = .ok (.iload 4, 2) := dk_21 4 (dk_at dksL_law_53 4 rfl rfl)
theorem dL_law_1388 : decode cL_law 1388 = .ok (.iconst 2, 1) := dk_5 (dk_at dksL_law_53 6 rfl rfl)
theorem dL_law_1389 : decode cL_law 1389 = .ok (.iadd, 1) := dk_96 (dk_at dksL_law_53 7 rfl rfl)
theorem dL_law_1390 : decode cL_law 1390 = .ok (.iaload, 1) := dk_46 (dk_at dksL_law_53 8 rfl rfl)
theorem dL_law_1391 : decode cL_law 1391 = .ok (.aload_n 3, 1) := dk_45 (dk_at dksL_law_53 9 rfl rfl)
theorem dL_law_1392 : decode cL_law 1392 = .ok (.invokestatic 193, 3) := dk_184 0 193 (dk_at dksL_law_53 10 rfl rfl)
theorem dL_law_1395 : decode cL_law 1395 = .ok (.istore 5, 2) := dk_54 5 (dk_at dksL_law_53 13 rfl rfl)
theorem dL_law_1397 : decode cL_law 1397 = .ok (.aload_n 2, 1) := dk_44 (dk_at dksL_law_53 15 rfl rfl)
theorem dL_law_1398 : decode cL_law 1398 = .ok (.aload_n 0, 1) := dk_42 (dk_at dksL_law_53 16 rfl rfl)
theorem dL_law_1399 : decode cL_law 1399 = .ok (.iload 4, 2) := dk_21 4 (dk_at dksL_law_53 17 rfl rfl)
theorem dL_law_1401 : decode cL_law 1401 = .ok (.iconst 1, 1) := dk_4 (dk_at dksL_law_53 19 rfl rfl)
theorem dL_law_1402 : decode cL_law 1402 = .ok (.iadd, 1) := dk_96 (dk_at dksL_law_53 20 rfl rfl)
theorem dL_law_1403 : decode cL_law 1403 = .ok (.iaload, 1) := dk_46 (dk_at dksL_law_53 21 rfl rfl)
theorem dL_law_1404 : decode cL_law 1404 = .ok (.aload_n 0, 1) := dk_42 (dk_at dksL_law_53 22 rfl rfl)
theorem dL_law_1405 : decode cL_law 1405 = .ok (.iload 4, 2) := dk_21 4 (dk_at dksL_law_54 0 rfl rfl)
theorem dL_law_1407 : decode cL_law 1407 = .ok (.iconst 2, 1) := dk_5 (dk_at dksL_law_54 2 rfl rfl)
theorem dL_law_1408 : decode cL_law 1408 = .ok (.iadd, 1) := dk_96 (dk_at dksL_law_54 3 rfl rfl)
theorem dL_law_1409 : decode cL_law 1409 = .ok (.iaload, 1) := dk_46 (dk_at dksL_law_54 4 rfl rfl)
theorem dL_law_1410 : decode cL_law 1410 = .ok (.invokevirtual 195, 3) := dk_182 0 195 (dk_at dksL_law_54 5 rfl rfl)
theorem dL_law_1413 : decode cL_law 1413 = .ok (.istore 6, 2) := dk_54 6 (dk_at dksL_law_54 8 rfl rfl)
theorem dL_law_1415 : decode cL_law 1415 = .ok (.aload_n 2, 1) := dk_44 (dk_at dksL_law_54 10 rfl rfl)
theorem dL_law_1416 : decode cL_law 1416 = .ok (.invokevirtual 130, 3) := dk_182 0 130 (dk_at dksL_law_54 11 rfl rfl)
theorem dL_law_1419 : decode cL_law 1419 = .ok (.iload 5, 2) := dk_21 5 (dk_at dksL_law_54 14 rfl rfl)
theorem dL_law_1421 : decode cL_law 1421 = .ok (.if_icmp .eq 5, 3) := dk_159 0 5 (dk_at dksL_law_54 16 rfl rfl)
theorem dL_law_1424 : decode cL_law 1424 = .ok (.iconst 0, 1) := dk_3 (dk_at dksL_law_54 19 rfl rfl)
theorem dL_law_1425 : decode cL_law 1425 = .ok (.ireturn, 1) := dk_172 (dk_at dksL_law_54 20 rfl rfl)
theorem dL_law_1426 : decode cL_law 1426 = .ok (.iload 5, 2) := dk_21 5 (dk_at dksL_law_54 21 rfl rfl)
theorem dL_law_1428 : decode cL_law 1428 = .ok (.ifCond .ne 15, 3) := dk_154 0 15 (dk_at dksL_law_55 0 rfl rfl)
theorem dL_law_1431 : decode cL_law 1431 = .ok (.aload_n 3, 1) := dk_45 (dk_at dksL_law_55 3 rfl rfl)
theorem dL_law_1432 : decode cL_law 1432 = .ok (.iconst 0, 1) := dk_3 (dk_at dksL_law_55 4 rfl rfl)
theorem dL_law_1433 : decode cL_law 1433 = .ok (.laload, 1) := dk_47 (dk_at dksL_law_55 5 rfl rfl)
theorem dL_law_1434 : decode cL_law 1434 = .ok (.iload 6, 2) := dk_21 6 (dk_at dksL_law_55 6 rfl rfl)
theorem dL_law_1436 : decode cL_law 1436 = .ok (.i2l, 1) := dk_133 (dk_at dksL_law_55 8 rfl rfl)
theorem dL_law_1437 : decode cL_law 1437 = .ok (.lcmp, 1) := dk_148 (dk_at dksL_law_55 9 rfl rfl)
theorem dL_law_1438 : decode cL_law 1438 = .ok (.ifCond .eq 5, 3) := dk_153 0 5 (dk_at dksL_law_55 10 rfl rfl)
theorem dL_law_1441 : decode cL_law 1441 = .ok (.iconst 0, 1) := dk_3 (dk_at dksL_law_55 13 rfl rfl)
theorem dL_law_1442 : decode cL_law 1442 = .ok (.ireturn, 1) := dk_172 (dk_at dksL_law_55 14 rfl rfl)
theorem dL_law_1443 : decode cL_law 1443 = .ok (.goto 930, 3) := dk_167 3 162 (dk_at dksL_law_55 15 rfl rfl)
theorem dL_law_1446 : decode cL_law 1446 = .ok (.aload_n 1, 1) := dk_43 (dk_at dksL_law_55 18 rfl rfl)
theorem dL_law_1447 : decode cL_law 1447 = .ok (.aload_n 0, 1) := dk_42 (dk_at dksL_law_55 19 rfl rfl)
theorem dL_law_1448 : decode cL_law 1448 = .ok (.iload 4, 2) := dk_21 4 (dk_at dksL_law_55 20 rfl rfl)
theorem dL_law_1450 : decode cL_law 1450 = .ok (.iconst 1, 1) := dk_4 (dk_at dksL_law_55 22 rfl rfl)
theorem dL_law_1451 : decode cL_law 1451 = .ok (.iadd, 1) := dk_96 (dk_at dksL_law_55 23 rfl rfl)
theorem dL_law_1452 : decode cL_law 1452 = .ok (.iaload, 1) := dk_46 (dk_at dksL_law_56 0 rfl rfl)
theorem dL_law_1453 : decode cL_law 1453 = .ok (.aload_n 0, 1) := dk_42 (dk_at dksL_law_56 1 rfl rfl)
theorem dL_law_1454 : decode cL_law 1454 = .ok (.iload 4, 2) := dk_21 4 (dk_at dksL_law_56 2 rfl rfl)
theorem dL_law_1456 : decode cL_law 1456 = .ok (.iconst 2, 1) := dk_5 (dk_at dksL_law_56 4 rfl rfl)
theorem dL_law_1457 : decode cL_law 1457 = .ok (.iadd, 1) := dk_96 (dk_at dksL_law_56 5 rfl rfl)
theorem dL_law_1458 : decode cL_law 1458 = .ok (.iaload, 1) := dk_46 (dk_at dksL_law_56 6 rfl rfl)
theorem dL_law_1459 : decode cL_law 1459 = .ok (.aload_n 3, 1) := dk_45 (dk_at dksL_law_56 7 rfl rfl)
theorem dL_law_1460 : decode cL_law 1460 = .ok (.invokestatic 196, 3) := dk_184 0 196 (dk_at dksL_law_56 8 rfl rfl)
theorem dL_law_1463 : decode cL_law 1463 = .ok (.istore 5, 2) := dk_54 5 (dk_at dksL_law_56 11 rfl rfl)
theorem dL_law_1465 : decode cL_law 1465 = .ok (.aload_n 2, 1) := dk_44 (dk_at dksL_law_56 13 rfl rfl)
theorem dL_law_1466 : decode cL_law 1466 = .ok (.aload_n 0, 1) := dk_42 (dk_at dksL_law_56 14 rfl rfl)
theorem dL_law_1467 : decode cL_law 1467 = .ok (.iload 4, 2) := dk_21 4 (dk_at dksL_law_56 15 rfl rfl)
theorem dL_law_1469 : decode cL_law 1469 = .ok (.iconst 1, 1) := dk_4 (dk_at dksL_law_56 17 rfl rfl)
theorem dL_law_1470 : decode cL_law 1470 = .ok (.iadd, 1) := dk_96 (dk_at dksL_law_56 18 rfl rfl)
theorem dL_law_1471 : decode cL_law 1471 = .ok (.iaload, 1) := dk_46 (dk_at dksL_law_56 19 rfl rfl)
theorem dL_law_1472 : decode cL_law 1472 = .ok (.aload_n 0, 1) := dk_42 (dk_at dksL_law_56 20 rfl rfl)
theorem dL_law_1473 : decode cL_law 1473 = .ok (.iload 4, 2) := dk_21 4 (dk_at dksL_law_56 21 rfl rfl)
theorem dL_law_1475 : decode cL_law 1475 = .ok (.iconst 2, 1) := dk_5 (dk_at dksL_law_56 23 rfl rfl)
theorem dL_law_1476 : decode cL_law 1476 = .ok (.iadd, 1) := dk_96 (dk_at dksL_law_57 0 rfl rfl)
theorem dL_law_1477 : decode cL_law 1477 = .ok (.iaload, 1) := dk_46 (dk_at dksL_law_57 1 rfl rfl)
theorem dL_law_1478 : decode cL_law 1478 = .ok (.invokevirtual 198, 3) := dk_182 0 198 (dk_at dksL_law_57 2 rfl rfl)
theorem dL_law_1481 : decode cL_law 1481 = .ok (.istore 6, 2) := dk_54 6 (dk_at dksL_law_57 5 rfl rfl)
theorem dL_law_1483 : decode cL_law 1483 = .ok (.aload_n 2, 1) := dk_44 (dk_at dksL_law_57 7 rfl rfl)
theorem dL_law_1484 : decode cL_law 1484 = .ok (.invokevirtual 130, 3) := dk_182 0 130 (dk_at dksL_law_57 8 rfl rfl)
theorem dL_law_1487 : decode cL_law 1487 = .ok (.iload 5, 2) := dk_21 5 (dk_at dksL_law_57 11 rfl rfl)
theorem dL_law_1489 : decode cL_law 1489 = .ok (.if_icmp .eq 5, 3) := dk_159 0 5 (dk_at dksL_law_57 13 rfl rfl)
theorem dL_law_1492 : decode cL_law 1492 = .ok (.iconst 0, 1) := dk_3 (dk_at dksL_law_57 16 rfl rfl)
theorem dL_law_1493 : decode cL_law 1493 = .ok (.ireturn, 1) := dk_172 (dk_at dksL_law_57 17 rfl rfl)
theorem dL_law_1494 : decode cL_law 1494 = .ok (.iload 5, 2) := dk_21 5 (dk_at dksL_law_57 18 rfl rfl)
theorem dL_law_1496 : decode cL_law 1496 = .ok (.ifCond .ne 15, 3) := dk_154 0 15 (dk_at dksL_law_57 20 rfl rfl)
theorem dL_law_1499 : decode cL_law 1499 = .ok (.aload_n 3, 1) := dk_45 (dk_at dksL_law_57 23 rfl rfl)
theorem dL_law_1500 : decode cL_law 1500 = .ok (.iconst 0, 1) := dk_3 (dk_at dksL_law_58 0 rfl rfl)
theorem dL_law_1501 : decode cL_law 1501 = .ok (.laload, 1) := dk_47 (dk_at dksL_law_58 1 rfl rfl)
theorem dL_law_1502 : decode cL_law 1502 = .ok (.iload 6, 2) := dk_21 6 (dk_at dksL_law_58 2 rfl rfl)
theorem dL_law_1504 : decode cL_law 1504 = .ok (.i2l, 1) := dk_133 (dk_at dksL_law_58 4 rfl rfl)
theorem dL_law_1505 : decode cL_law 1505 = .ok (.lcmp, 1) := dk_148 (dk_at dksL_law_58 5 rfl rfl)
theorem dL_law_1506 : decode cL_law 1506 = .ok (.ifCond .eq 5, 3) := dk_153 0 5 (dk_at dksL_law_58 6 rfl rfl)
theorem dL_law_1509 : decode cL_law 1509 = .ok (.iconst 0, 1) := dk_3 (dk_at dksL_law_58 9 rfl rfl)
theorem dL_law_1510 : decode cL_law 1510 = .ok (.ireturn, 1) := dk_172 (dk_at dksL_law_58 10 rfl rfl)
theorem dL_law_1511 : decode cL_law 1511 = .ok (.goto 862, 3) := dk_167 3 94 (dk_at dksL_law_58 11 rfl rfl)
theorem dL_law_1514 : decode cL_law 1514 = .ok (.aload_n 1, 1) := dk_43 (dk_at dksL_law_58 14 rfl rfl)
theorem dL_law_1515 : decode cL_law 1515 = .ok (.aload_n 0, 1) := dk_42 (dk_at dksL_law_58 15 rfl rfl)
theorem dL_law_1516 : decode cL_law 1516 = .ok (.iload 4, 2) := dk_21 4 (dk_at dksL_law_58 16 rfl rfl)
theorem dL_law_1518 : decode cL_law 1518 = .ok (.iconst 1, 1) := dk_4 (dk_at dksL_law_58 18 rfl rfl)
theorem dL_law_1519 : decode cL_law 1519 = .ok (.iadd, 1) := dk_96 (dk_at dksL_law_58 19 rfl rfl)
theorem dL_law_1520 : decode cL_law 1520 = .ok (.iaload, 1) := dk_46 (dk_at dksL_law_58 20 rfl rfl)
theorem dL_law_1521 : decode cL_law 1521 = .ok (.aload_n 0, 1) := dk_42 (dk_at dksL_law_58 21 rfl rfl)
theorem dL_law_1522 : decode cL_law 1522 = .ok (.iload 4, 2) := dk_21 4 (dk_at dksL_law_58 22 rfl rfl)
theorem dL_law_1524 : decode cL_law 1524 = .ok (.iconst 2, 1) := dk_5 (dk_at dksL_law_59 0 rfl rfl)
theorem dL_law_1525 : decode cL_law 1525 = .ok (.iadd, 1) := dk_96 (dk_at dksL_law_59 1 rfl rfl)
theorem dL_law_1526 : decode cL_law 1526 = .ok (.iaload, 1) := dk_46 (dk_at dksL_law_59 2 rfl rfl)
theorem dL_law_1527 : decode cL_law 1527 = .ok (.aload_n 3, 1) := dk_45 (dk_at dksL_law_59 3 rfl rfl)
theorem dL_law_1528 : decode cL_law 1528 = .ok (.invokestatic 199, 3) := dk_184 0 199 (dk_at dksL_law_59 4 rfl rfl)
theorem dL_law_1531 : decode cL_law 1531 = .ok (.istore 5, 2) := dk_54 5 (dk_at dksL_law_59 7 rfl rfl)
theorem dL_law_1533 : decode cL_law 1533 = .ok (.aload_n 2, 1) := dk_44 (dk_at dksL_law_59 9 rfl rfl)
theorem dL_law_1534 : decode cL_law 1534 = .ok (.aload_n 0, 1) := dk_42 (dk_at dksL_law_59 10 rfl rfl)
theorem dL_law_1535 : decode cL_law 1535 = .ok (.iload 4, 2) := dk_21 4 (dk_at dksL_law_59 11 rfl rfl)
theorem dL_law_1537 : decode cL_law 1537 = .ok (.iconst 1, 1) := dk_4 (dk_at dksL_law_59 13 rfl rfl)
theorem dL_law_1538 : decode cL_law 1538 = .ok (.iadd, 1) := dk_96 (dk_at dksL_law_59 14 rfl rfl)
theorem dL_law_1539 : decode cL_law 1539 = .ok (.iaload, 1) := dk_46 (dk_at dksL_law_59 15 rfl rfl)
theorem dL_law_1540 : decode cL_law 1540 = .ok (.aload_n 0, 1) := dk_42 (dk_at dksL_law_59 16 rfl rfl)
theorem dL_law_1541 : decode cL_law 1541 = .ok (.iload 4, 2) := dk_21 4 (dk_at dksL_law_59 17 rfl rfl)
theorem dL_law_1543 : decode cL_law 1543 = .ok (.iconst 2, 1) := dk_5 (dk_at dksL_law_59 19 rfl rfl)
theorem dL_law_1544 : decode cL_law 1544 = .ok (.iadd, 1) := dk_96 (dk_at dksL_law_59 20 rfl rfl)
theorem dL_law_1545 : decode cL_law 1545 = .ok (.iaload, 1) := dk_46 (dk_at dksL_law_59 21 rfl rfl)
theorem dL_law_1546 : decode cL_law 1546 = .ok (.invokevirtual 201, 3) := dk_182 0 201 (dk_at dksL_law_60 0 rfl rfl)
theorem dL_law_1549 : decode cL_law 1549 = .ok (.istore 6, 2) := dk_54 6 (dk_at dksL_law_60 3 rfl rfl)
theorem dL_law_1551 : decode cL_law 1551 = .ok (.aload_n 2, 1) := dk_44 (dk_at dksL_law_60 5 rfl rfl)
theorem dL_law_1552 : decode cL_law 1552 = .ok (.invokevirtual 130, 3) := dk_182 0 130 (dk_at dksL_law_60 6 rfl rfl)
theorem dL_law_1555 : decode cL_law 1555 = .ok (.iload 5, 2) := dk_21 5 (dk_at dksL_law_60 9 rfl rfl)
theorem dL_law_1557 : decode cL_law 1557 = .ok (.if_icmp .eq 5, 3) := dk_159 0 5 (dk_at dksL_law_60 11 rfl rfl)
theorem dL_law_1560 : decode cL_law 1560 = .ok (.iconst 0, 1) := dk_3 (dk_at dksL_law_60 14 rfl rfl)
theorem dL_law_1561 : decode cL_law 1561 = .ok (.ireturn, 1) := dk_172 (dk_at dksL_law_60 15 rfl rfl)
theorem dL_law_1562 : decode cL_law 1562 = .ok (.iload 5, 2) := dk_21 5 (dk_at dksL_law_60 16 rfl rfl)
theorem dL_law_1564 : decode cL_law 1564 = .ok (.ifCond .ne 15, 3) := dk_154 0 15 (dk_at dksL_law_60 18 rfl rfl)
theorem dL_law_1567 : decode cL_law 1567 = .ok (.aload_n 3, 1) := dk_45 (dk_at dksL_law_60 21 rfl rfl)
theorem dL_law_1568 : decode cL_law 1568 = .ok (.iconst 0, 1) := dk_3 (dk_at dksL_law_60 22 rfl rfl)
theorem dL_law_1569 : decode cL_law 1569 = .ok (.laload, 1) := dk_47 (dk_at dksL_law_60 23 rfl rfl)
theorem dL_law_1570 : decode cL_law 1570 = .ok (.iload 6, 2) := dk_21 6 (dk_at dksL_law_61 0 rfl rfl)
theorem dL_law_1572 : decode cL_law 1572 = .ok (.i2l, 1) := dk_133 (dk_at dksL_law_61 2 rfl rfl)
theorem dL_law_1573 : decode cL_law 1573 = .ok (.lcmp, 1) := dk_148 (dk_at dksL_law_61 3 rfl rfl)
theorem dL_law_1574 : decode cL_law 1574 = .ok (.ifCond .eq 5, 3) := dk_153 0 5 (dk_at dksL_law_61 4 rfl rfl)
theorem dL_law_1577 : decode cL_law 1577 = .ok (.iconst 0, 1) := dk_3 (dk_at dksL_law_61 7 rfl rfl)
theorem dL_law_1578 : decode cL_law 1578 = .ok (.ireturn, 1) := dk_172 (dk_at dksL_law_61 8 rfl rfl)
theorem dL_law_1579 : decode cL_law 1579 = .ok (.goto 794, 3) := dk_167 3 26 (dk_at dksL_law_61 9 rfl rfl)
theorem dL_law_1582 : decode cL_law 1582 = .ok (.aload_n 1, 1) := dk_43 (dk_at dksL_law_61 12 rfl rfl)
theorem dL_law_1583 : decode cL_law 1583 = .ok (.aload_n 0, 1) := dk_42 (dk_at dksL_law_61 13 rfl rfl)
theorem dL_law_1584 : decode cL_law 1584 = .ok (.iload 4, 2) := dk_21 4 (dk_at dksL_law_61 14 rfl rfl)
theorem dL_law_1586 : decode cL_law 1586 = .ok (.iconst 1, 1) := dk_4 (dk_at dksL_law_61 16 rfl rfl)
theorem dL_law_1587 : decode cL_law 1587 = .ok (.iadd, 1) := dk_96 (dk_at dksL_law_61 17 rfl rfl)
theorem dL_law_1588 : decode cL_law 1588 = .ok (.iaload, 1) := dk_46 (dk_at dksL_law_61 18 rfl rfl)
theorem dL_law_1589 : decode cL_law 1589 = .ok (.aload_n 0, 1) := dk_42 (dk_at dksL_law_61 19 rfl rfl)
theorem dL_law_1590 : decode cL_law 1590 = .ok (.iload 4, 2) := dk_21 4 (dk_at dksL_law_61 20 rfl rfl)
theorem dL_law_1592 : decode cL_law 1592 = .ok (.iconst 2, 1) := dk_5 (dk_at dksL_law_61 22 rfl rfl)
theorem dL_law_1593 : decode cL_law 1593 = .ok (.iadd, 1) := dk_96 (dk_at dksL_law_61 23 rfl rfl)
theorem dL_law_1594 : decode cL_law 1594 = .ok (.iaload, 1) := dk_46 (dk_at dksL_law_62 0 rfl rfl)
theorem dL_law_1595 : decode cL_law 1595 = .ok (.aload_n 3, 1) := dk_45 (dk_at dksL_law_62 1 rfl rfl)
theorem dL_law_1596 : decode cL_law 1596 = .ok (.invokestatic 202, 3) := dk_184 0 202 (dk_at dksL_law_62 2 rfl rfl)
theorem dL_law_1599 : decode cL_law 1599 = .ok (.istore 5, 2) := dk_54 5 (dk_at dksL_law_62 5 rfl rfl)
theorem dL_law_1601 : decode cL_law 1601 = .ok (.aload_n 2, 1) := dk_44 (dk_at dksL_law_62 7 rfl rfl)
theorem dL_law_1602 : decode cL_law 1602 = .ok (.aload_n 0, 1) := dk_42 (dk_at dksL_law_62 8 rfl rfl)
theorem dL_law_1603 : decode cL_law 1603 = .ok (.iload 4, 2) := dk_21 4 (dk_at dksL_law_62 9 rfl rfl)
theorem dL_law_1605 : decode cL_law 1605 = .ok (.iconst 1, 1) := dk_4 (dk_at dksL_law_62 11 rfl rfl)
theorem dL_law_1606 : decode cL_law 1606 = .ok (.iadd, 1) := dk_96 (dk_at dksL_law_62 12 rfl rfl)
theorem dL_law_1607 : decode cL_law 1607 = .ok (.iaload, 1) := dk_46 (dk_at dksL_law_62 13 rfl rfl)
theorem dL_law_1608 : decode cL_law 1608 = .ok (.aload_n 0, 1) := dk_42 (dk_at dksL_law_62 14 rfl rfl)
theorem dL_law_1609 : decode cL_law 1609 = .ok (.iload 4, 2) := dk_21 4 (dk_at dksL_law_62 15 rfl rfl)
theorem dL_law_1611 : decode cL_law 1611 = .ok (.iconst 2, 1) := dk_5 (dk_at dksL_law_62 17 rfl rfl)
theorem dL_law_1612 : decode cL_law 1612 = .ok (.iadd, 1) := dk_96 (dk_at dksL_law_62 18 rfl rfl)
theorem dL_law_1613 : decode cL_law 1613 = .ok (.iaload, 1) := dk_46 (dk_at dksL_law_62 19 rfl rfl)
theorem dL_law_1614 : decode cL_law 1614 = .ok (.invokevirtual 204, 3) := dk_182 0 204 (dk_at dksL_law_62 20 rfl rfl)
theorem dL_law_1617 : decode cL_law 1617 = .ok (.istore 6, 2) := dk_54 6 (dk_at dksL_law_63 0 rfl rfl)
theorem dL_law_1619 : decode cL_law 1619 = .ok (.aload_n 2, 1) := dk_44 (dk_at dksL_law_63 2 rfl rfl)
theorem dL_law_1620 : decode cL_law 1620 = .ok (.invokevirtual 130, 3) := dk_182 0 130 (dk_at dksL_law_63 3 rfl rfl)
theorem dL_law_1623 : decode cL_law 1623 = .ok (.iload 5, 2) := dk_21 5 (dk_at dksL_law_63 6 rfl rfl)
theorem dL_law_1625 : decode cL_law 1625 = .ok (.if_icmp .eq 5, 3) := dk_159 0 5 (dk_at dksL_law_63 8 rfl rfl)
theorem dL_law_1628 : decode cL_law 1628 = .ok (.iconst 0, 1) := dk_3 (dk_at dksL_law_63 11 rfl rfl)
theorem dL_law_1629 : decode cL_law 1629 = .ok (.ireturn, 1) := dk_172 (dk_at dksL_law_63 12 rfl rfl)
theorem dL_law_1630 : decode cL_law 1630 = .ok (.iload 5, 2) := dk_21 5 (dk_at dksL_law_63 13 rfl rfl)
theorem dL_law_1632 : decode cL_law 1632 = .ok (.ifCond .ne 15, 3) := dk_154 0 15 (dk_at dksL_law_63 15 rfl rfl)
theorem dL_law_1635 : decode cL_law 1635 = .ok (.aload_n 3, 1) := dk_45 (dk_at dksL_law_63 18 rfl rfl)
theorem dL_law_1636 : decode cL_law 1636 = .ok (.iconst 0, 1) := dk_3 (dk_at dksL_law_63 19 rfl rfl)
theorem dL_law_1637 : decode cL_law 1637 = .ok (.laload, 1) := dk_47 (dk_at dksL_law_63 20 rfl rfl)
theorem dL_law_1638 : decode cL_law 1638 = .ok (.iload 6, 2) := dk_21 6 (dk_at dksL_law_63 21 rfl rfl)
theorem dL_law_1640 : decode cL_law 1640 = .ok (.i2l, 1) := dk_133 (dk_at dksL_law_63 23 rfl rfl)
theorem dL_law_1641 : decode cL_law 1641 = .ok (.lcmp, 1) := dk_148 (dk_at dksL_law_64 0 rfl rfl)
theorem dL_law_1642 : decode cL_law 1642 = .ok (.ifCond .eq 5, 3) := dk_153 0 5 (dk_at dksL_law_64 1 rfl rfl)
theorem dL_law_1645 : decode cL_law 1645 = .ok (.iconst 0, 1) := dk_3 (dk_at dksL_law_64 4 rfl rfl)
theorem dL_law_1646 : decode cL_law 1646 = .ok (.ireturn, 1) := dk_172 (dk_at dksL_law_64 5 rfl rfl)
theorem dL_law_1647 : decode cL_law 1647 = .ok (.goto 726, 3) := dk_167 2 214 (dk_at dksL_law_64 6 rfl rfl)
theorem dL_law_1650 : decode cL_law 1650 = .ok (.aload_n 1, 1) := dk_43 (dk_at dksL_law_64 9 rfl rfl)
theorem dL_law_1651 : decode cL_law 1651 = .ok (.aload_n 0, 1) := dk_42 (dk_at dksL_law_64 10 rfl rfl)
theorem dL_law_1652 : decode cL_law 1652 = .ok (.iload 4, 2) := dk_21 4 (dk_at dksL_law_64 11 rfl rfl)
theorem dL_law_1654 : decode cL_law 1654 = .ok (.iconst 1, 1) := dk_4 (dk_at dksL_law_64 13 rfl rfl)
theorem dL_law_1655 : decode cL_law 1655 = .ok (.iadd, 1) := dk_96 (dk_at dksL_law_64 14 rfl rfl)
theorem dL_law_1656 : decode cL_law 1656 = .ok (.iaload, 1) := dk_46 (dk_at dksL_law_64 15 rfl rfl)
theorem dL_law_1657 : decode cL_law 1657 = .ok (.aload_n 0, 1) := dk_42 (dk_at dksL_law_64 16 rfl rfl)
theorem dL_law_1658 : decode cL_law 1658 = .ok (.iload 4, 2) := dk_21 4 (dk_at dksL_law_64 17 rfl rfl)
theorem dL_law_1660 : decode cL_law 1660 = .ok (.iconst 2, 1) := dk_5 (dk_at dksL_law_64 19 rfl rfl)
theorem dL_law_1661 : decode cL_law 1661 = .ok (.iadd, 1) := dk_96 (dk_at dksL_law_64 20 rfl rfl)
theorem dL_law_1662 : decode cL_law 1662 = .ok (.iaload, 1) := dk_46 (dk_at dksL_law_64 21 rfl rfl)
theorem dL_law_1663 : decode cL_law 1663 = .ok (.aload_n 3, 1) := dk_45 (dk_at dksL_law_64 22 rfl rfl)
theorem dL_law_1664 : decode cL_law 1664 = .ok (.invokestatic 205, 3) := dk_184 0 205 (dk_at dksL_law_65 0 rfl rfl)
theorem dL_law_1667 : decode cL_law 1667 = .ok (.istore 5, 2) := dk_54 5 (dk_at dksL_law_65 3 rfl rfl)
theorem dL_law_1669 : decode cL_law 1669 = .ok (.aload_n 2, 1) := dk_44 (dk_at dksL_law_65 5 rfl rfl)
theorem dL_law_1670 : decode cL_law 1670 = .ok (.aload_n 0, 1) := dk_42 (dk_at dksL_law_65 6 rfl rfl)
theorem dL_law_1671 : decode cL_law 1671 = .ok (.iload 4, 2) := dk_21 4 (dk_at dksL_law_65 7 rfl rfl)
theorem dL_law_1673 : decode cL_law 1673 = .ok (.iconst 1, 1) := dk_4 (dk_at dksL_law_65 9 rfl rfl)
theorem dL_law_1674 : decode cL_law 1674 = .ok (.iadd, 1) := dk_96 (dk_at dksL_law_65 10 rfl rfl)
theorem dL_law_1675 : decode cL_law 1675 = .ok (.iaload, 1) := dk_46 (dk_at dksL_law_65 11 rfl rfl)
theorem dL_law_1676 : decode cL_law 1676 = .ok (.aload_n 0, 1) := dk_42 (dk_at dksL_law_65 12 rfl rfl)
theorem dL_law_1677 : decode cL_law 1677 = .ok (.iload 4, 2) := dk_21 4 (dk_at dksL_law_65 13 rfl rfl)
theorem dL_law_1679 : decode cL_law 1679 = .ok (.iconst 2, 1) := dk_5 (dk_at dksL_law_65 15 rfl rfl)
theorem dL_law_1680 : decode cL_law 1680 = .ok (.iadd, 1) := dk_96 (dk_at dksL_law_65 16 rfl rfl)
theorem dL_law_1681 : decode cL_law 1681 = .ok (.iaload, 1) := dk_46 (dk_at dksL_law_65 17 rfl rfl)
theorem dL_law_1682 : decode cL_law 1682 = .ok (.invokevirtual 207, 3) := dk_182 0 207 (dk_at dksL_law_65 18 rfl rfl)
theorem dL_law_1685 : decode cL_law 1685 = .ok (.istore 6, 2) := dk_54 6 (dk_at dksL_law_65 21 rfl rfl)
theorem dL_law_1687 : decode cL_law 1687 = .ok (.aload_n 2, 1) := dk_44 (dk_at dksL_law_65 23 rfl rfl)
theorem dL_law_1688 : decode cL_law 1688 = .ok (.invokevirtual 130, 3) := dk_182 0 130 (dk_at dksL_law_66 0 rfl rfl)
theorem dL_law_1691 : decode cL_law 1691 = .ok (.iload 5, 2) := dk_21 5 (dk_at dksL_law_66 3 rfl rfl)
theorem dL_law_1693 : decode cL_law 1693 = .ok (.if_icmp .eq 5, 3) := dk_159 0 5 (dk_at dksL_law_66 5 rfl rfl)
theorem dL_law_1696 : decode cL_law 1696 = .ok (.iconst 0, 1) := dk_3 (dk_at dksL_law_66 8 rfl rfl)
theorem dL_law_1697 : decode cL_law 1697 = .ok (.ireturn, 1) := dk_172 (dk_at dksL_law_66 9 rfl rfl)
theorem dL_law_1698 : decode cL_law 1698 = .ok (.iload 5, 2) := dk_21 5 (dk_at dksL_law_66 10 rfl rfl)
theorem dL_law_1700 : decode cL_law 1700 = .ok (.ifCond .ne 15, 3) := dk_154 0 15 (dk_at dksL_law_66 12 rfl rfl)
theorem dL_law_1703 : decode cL_law 1703 = .ok (.aload_n 3, 1) := dk_45 (dk_at dksL_law_66 15 rfl rfl)
theorem dL_law_1704 : decode cL_law 1704 = .ok (.iconst 0, 1) := dk_3 (dk_at dksL_law_66 16 rfl rfl)
theorem dL_law_1705 : decode cL_law 1705 = .ok (.laload, 1) := dk_47 (dk_at dksL_law_66 17 rfl rfl)
theorem dL_law_1706 : decode cL_law 1706 = .ok (.iload 6, 2) := dk_21 6 (dk_at dksL_law_66 18 rfl rfl)
theorem dL_law_1708 : decode cL_law 1708 = .ok (.i2l, 1) := dk_133 (dk_at dksL_law_66 20 rfl rfl)
theorem dL_law_1709 : decode cL_law 1709 = .ok (.lcmp, 1) := dk_148 (dk_at dksL_law_66 21 rfl rfl)
theorem dL_law_1710 : decode cL_law 1710 = .ok (.ifCond .eq 5, 3) := dk_153 0 5 (dk_at dksL_law_67 0 rfl rfl)
theorem dL_law_1713 : decode cL_law 1713 = .ok (.iconst 0, 1) := dk_3 (dk_at dksL_law_67 3 rfl rfl)
theorem dL_law_1714 : decode cL_law 1714 = .ok (.ireturn, 1) := dk_172 (dk_at dksL_law_67 4 rfl rfl)
theorem dL_law_1715 : decode cL_law 1715 = .ok (.goto 658, 3) := dk_167 2 146 (dk_at dksL_law_67 5 rfl rfl)
theorem dL_law_1718 : decode cL_law 1718 = .ok (.aload_n 1, 1) := dk_43 (dk_at dksL_law_67 8 rfl rfl)
theorem dL_law_1719 : decode cL_law 1719 = .ok (.aload_n 0, 1) := dk_42 (dk_at dksL_law_67 9 rfl rfl)
theorem dL_law_1720 : decode cL_law 1720 = .ok (.iload 4, 2) := dk_21 4 (dk_at dksL_law_67 10 rfl rfl)
theorem dL_law_1722 : decode cL_law 1722 = .ok (.iconst 1, 1) := dk_4 (dk_at dksL_law_67 12 rfl rfl)
theorem dL_law_1723 : decode cL_law 1723 = .ok (.iadd, 1) := dk_96 (dk_at dksL_law_67 13 rfl rfl)
theorem dL_law_1724 : decode cL_law 1724 = .ok (.iaload, 1) := dk_46 (dk_at dksL_law_67 14 rfl rfl)
theorem dL_law_1725 : decode cL_law 1725 = .ok (.aload_n 0, 1) := dk_42 (dk_at dksL_law_67 15 rfl rfl)
theorem dL_law_1726 : decode cL_law 1726 = .ok (.iload 4, 2) := dk_21 4 (dk_at dksL_law_67 16 rfl rfl)
theorem dL_law_1728 : decode cL_law 1728 = .ok (.iconst 2, 1) := dk_5 (dk_at dksL_law_67 18 rfl rfl)
theorem dL_law_1729 : decode cL_law 1729 = .ok (.iadd, 1) := dk_96 (dk_at dksL_law_67 19 rfl rfl)
theorem dL_law_1730 : decode cL_law 1730 = .ok (.iaload, 1) := dk_46 (dk_at dksL_law_67 20 rfl rfl)
theorem dL_law_1731 : decode cL_law 1731 = .ok (.aload_n 3, 1) := dk_45 (dk_at dksL_law_67 21 rfl rfl)
theorem dL_law_1732 : decode cL_law 1732 = .ok (.invokestatic 208, 3) := dk_184 0 208 (dk_at dksL_law_68 0 rfl rfl)
theorem dL_law_1735 : decode cL_law 1735 = .ok (.istore 5, 2) := dk_54 5 (dk_at dksL_law_68 3 rfl rfl)
theorem dL_law_1737 : decode cL_law 1737 = .ok (.aload_n 2, 1) := dk_44 (dk_at dksL_law_68 5 rfl rfl)
theorem dL_law_1738 : decode cL_law 1738 = .ok (.aload_n 0, 1) := dk_42 (dk_at dksL_law_68 6 rfl rfl)
theorem dL_law_1739 : decode cL_law 1739 = .ok (.iload 4, 2) := dk_21 4 (dk_at dksL_law_68 7 rfl rfl)
theorem dL_law_1741 : decode cL_law 1741 = .ok (.iconst 1, 1) := dk_4 (dk_at dksL_law_68 9 rfl rfl)
theorem dL_law_1742 : decode cL_law 1742 = .ok (.iadd, 1) := dk_96 (dk_at dksL_law_68 10 rfl rfl)
theorem dL_law_1743 : decode cL_law 1743 = .ok (.iaload, 1) := dk_46 (dk_at dksL_law_68 11 rfl rfl)
theorem dL_law_1744 : decode cL_law 1744 = .ok (.aload_n 0, 1) := dk_42 (dk_at dksL_law_68 12 rfl rfl)
theorem dL_law_1745 : decode cL_law 1745 = .ok (.iload 4, 2) := dk_21 4 (dk_at dksL_law_68 13 rfl rfl)
theorem dL_law_1747 : decode cL_law 1747 = .ok (.iconst 2, 1) := dk_5 (dk_at dksL_law_68 15 rfl rfl)
theorem dL_law_1748 : decode cL_law 1748 = .ok (.iadd, 1) := dk_96 (dk_at dksL_law_68 16 rfl rfl)
theorem dL_law_1749 : decode cL_law 1749 = .ok (.iaload, 1) := dk_46 (dk_at dksL_law_68 17 rfl rfl)
theorem dL_law_1750 : decode cL_law 1750 = .ok (.invokevirtual 210, 3) := dk_182 0 210 (dk_at dksL_law_68 18 rfl rfl)
theorem dL_law_1753 : decode cL_law 1753 = .ok (.istore 6, 2) := dk_54 6 (dk_at dksL_law_68 21 rfl rfl)
theorem dL_law_1755 : decode cL_law 1755 = .ok (.aload_n 2, 1) := dk_44 (dk_at dksL_law_68 23 rfl rfl)
theorem dL_law_1756 : decode cL_law 1756 = .ok (.invokevirtual 130, 3) := dk_182 0 130 (dk_at dksL_law_69 0 rfl rfl)
theorem dL_law_1759 : decode cL_law 1759 = .ok (.iload 5, 2) := dk_21 5 (dk_at dksL_law_69 3 rfl rfl)
theorem dL_law_1761 : decode cL_law 1761 = .ok (.if_icmp .eq 5, 3) := dk_159 0 5 (dk_at dksL_law_69 5 rfl rfl)
theorem dL_law_1764 : decode cL_law 1764 = .ok (.iconst 0, 1) := dk_3 (dk_at dksL_law_69 8 rfl rfl)
theorem dL_law_1765 : decode cL_law 1765 = .ok (.ireturn, 1) := dk_172 (dk_at dksL_law_69 9 rfl rfl)
theorem dL_law_1766 : decode cL_law 1766 = .ok (.iload 5, 2) := dk_21 5 (dk_at dksL_law_69 10 rfl rfl)
theorem dL_law_1768 : decode cL_law 1768 = .ok (.ifCond .ne 15, 3) := dk_154 0 15 (dk_at dksL_law_69 12 rfl rfl)
theorem dL_law_1771 : decode cL_law 1771 = .ok (.aload_n 3, 1) := dk_45 (dk_at dksL_law_69 15 rfl rfl)
theorem dL_law_1772 : decode cL_law 1772 = .ok (.iconst 0, 1) := dk_3 (dk_at dksL_law_69 16 rfl rfl)
theorem dL_law_1773 : decode cL_law 1773 = .ok (.laload, 1) := dk_47 (dk_at dksL_law_69 17 rfl rfl)
theorem dL_law_1774 : decode cL_law 1774 = .ok (.iload 6, 2) := dk_21 6 (dk_at dksL_law_69 18 rfl rfl)
theorem dL_law_1776 : decode cL_law 1776 = .ok (.i2l, 1) := dk_133 (dk_at dksL_law_69 20 rfl rfl)
theorem dL_law_1777 : decode cL_law 1777 = .ok (.lcmp, 1) := dk_148 (dk_at dksL_law_69 21 rfl rfl)
theorem dL_law_1778 : decode cL_law 1778 = .ok (.ifCond .eq 5, 3) := dk_153 0 5 (dk_at dksL_law_70 0 rfl rfl)
theorem dL_law_1781 : decode cL_law 1781 = .ok (.iconst 0, 1) := dk_3 (dk_at dksL_law_70 3 rfl rfl)
theorem dL_law_1782 : decode cL_law 1782 = .ok (.ireturn, 1) := dk_172 (dk_at dksL_law_70 4 rfl rfl)
theorem dL_law_1783 : decode cL_law 1783 = .ok (.goto 590, 3) := dk_167 2 78 (dk_at dksL_law_70 5 rfl rfl)
theorem dL_law_1786 : decode cL_law 1786 = .ok (.aload_n 1, 1) := dk_43 (dk_at dksL_law_70 8 rfl rfl)
theorem dL_law_1787 : decode cL_law 1787 = .ok (.aload_n 0, 1) := dk_42 (dk_at dksL_law_70 9 rfl rfl)
theorem dL_law_1788 : decode cL_law 1788 = .ok (.iload 4, 2) := dk_21 4 (dk_at dksL_law_70 10 rfl rfl)
theorem dL_law_1790 : decode cL_law 1790 = .ok (.iconst 1, 1) := dk_4 (dk_at dksL_law_70 12 rfl rfl)
theorem dL_law_1791 : decode cL_law 1791 = .ok (.iadd, 1) := dk_96 (dk_at dksL_law_70 13 rfl rfl)
theorem dL_law_1792 : decode cL_law 1792 = .ok (.iaload, 1) := dk_46 (dk_at dksL_law_70 14 rfl rfl)
theorem dL_law_1793 : decode cL_law 1793 = .ok (.aload_n 0, 1) := dk_42 (dk_at dksL_law_70 15 rfl rfl)
theorem dL_law_1794 : decode cL_law 1794 = .ok (.iload 4, 2) := dk_21 4 (dk_at dksL_law_70 16 rfl rfl)
theorem dL_law_1796 : decode cL_law 1796 = .ok (.iconst 2, 1) := dk_5 (dk_at dksL_law_70 18 rfl rfl)
theorem dL_law_1797 : decode cL_law 1797 = .ok (.iadd, 1) := dk_96 (dk_at dksL_law_70 19 rfl rfl)
theorem dL_law_1798 : decode cL_law 1798 = .ok (.iaload, 1) := dk_46 (dk_at dksL_law_70 20 rfl rfl)
theorem dL_law_1799 : decode cL_law 1799 = .ok (.aload_n 0, 1) := dk_42 (dk_at dksL_law_70 21 rfl rfl)
theorem dL_law_1800 : decode cL_law 1800 = .ok (.iload 4, 2) := dk_21 4 (dk_at dksL_law_70 22 rfl rfl)
theorem dL_law_1802 : decode cL_law 1802 = .ok (.iconst 3, 1) := dk_6 (dk_at dksL_law_71 0 rfl rfl)
theorem dL_law_1803 : decode cL_law 1803 = .ok (.iadd, 1) := dk_96 (dk_at dksL_law_71 1 rfl rfl)
theorem dL_law_1804 : decode cL_law 1804 = .ok (.iaload, 1) := dk_46 (dk_at dksL_law_71 2 rfl rfl)
theorem dL_law_1805 : decode cL_law 1805 = .ok (.aload_n 3, 1) := dk_45 (dk_at dksL_law_71 3 rfl rfl)
theorem dL_law_1806 : decode cL_law 1806 = .ok (.invokestatic 211, 3) := dk_184 0 211 (dk_at dksL_law_71 4 rfl rfl)
theorem dL_law_1809 : decode cL_law 1809 = .ok (.istore 5, 2) := dk_54 5 (dk_at dksL_law_71 7 rfl rfl)
theorem dL_law_1811 : decode cL_law 1811 = .ok (.aload_n 2, 1) := dk_44 (dk_at dksL_law_71 9 rfl rfl)
theorem dL_law_1812 : decode cL_law 1812 = .ok (.aload_n 0, 1) := dk_42 (dk_at dksL_law_71 10 rfl rfl)
theorem dL_law_1813 : decode cL_law 1813 = .ok (.iload 4, 2) := dk_21 4 (dk_at dksL_law_71 11 rfl rfl)
theorem dL_law_1815 : decode cL_law 1815 = .ok (.iconst 1, 1) := dk_4 (dk_at dksL_law_71 13 rfl rfl)
theorem dL_law_1816 : decode cL_law 1816 = .ok (.iadd, 1) := dk_96 (dk_at dksL_law_71 14 rfl rfl)
theorem dL_law_1817 : decode cL_law 1817 = .ok (.iaload, 1) := dk_46 (dk_at dksL_law_71 15 rfl rfl)
theorem dL_law_1818 : decode cL_law 1818 = .ok (.aload_n 0, 1) := dk_42 (dk_at dksL_law_71 16 rfl rfl)
theorem dL_law_1819 : decode cL_law 1819 = .ok (.iload 4, 2) := dk_21 4 (dk_at dksL_law_71 17 rfl rfl)
theorem dL_law_1821 : decode cL_law 1821 = .ok (.iconst 2, 1) := dk_5 (dk_at dksL_law_71 19 rfl rfl)
theorem dL_law_1822 : decode cL_law 1822 = .ok (.iadd, 1) := dk_96 (dk_at dksL_law_71 20 rfl rfl)
theorem dL_law_1823 : decode cL_law 1823 = .ok (.iaload, 1) := dk_46 (dk_at dksL_law_71 21 rfl rfl)
theorem dL_law_1824 : decode cL_law 1824 = .ok (.aload_n 0, 1) := dk_42 (dk_at dksL_law_71 22 rfl rfl)
theorem dL_law_1825 : decode cL_law 1825 = .ok (.iload 4, 2) := dk_21 4 (dk_at dksL_law_72 0 rfl rfl)
theorem dL_law_1827 : decode cL_law 1827 = .ok (.iconst 3, 1) := dk_6 (dk_at dksL_law_72 2 rfl rfl)
theorem dL_law_1828 : decode cL_law 1828 = .ok (.iadd, 1) := dk_96 (dk_at dksL_law_72 3 rfl rfl)
theorem dL_law_1829 : decode cL_law 1829 = .ok (.iaload, 1) := dk_46 (dk_at dksL_law_72 4 rfl rfl)
theorem dL_law_1830 : decode cL_law 1830 = .ok (.invokevirtual 214, 3) := dk_182 0 214 (dk_at dksL_law_72 5 rfl rfl)
theorem dL_law_1833 : decode cL_law 1833 = .ok (.istore 6, 2) := dk_54 6 (dk_at dksL_law_72 8 rfl rfl)
theorem dL_law_1835 : decode cL_law 1835 = .ok (.aload_n 2, 1) := dk_44 (dk_at dksL_law_72 10 rfl rfl)
theorem dL_law_1836 : decode cL_law 1836 = .ok (.invokevirtual 130, 3) := dk_182 0 130 (dk_at dksL_law_72 11 rfl rfl)
theorem dL_law_1839 : decode cL_law 1839 = .ok (.iload 5, 2) := dk_21 5 (dk_at dksL_law_72 14 rfl rfl)
theorem dL_law_1841 : decode cL_law 1841 = .ok (.if_icmp .eq 5, 3) := dk_159 0 5 (dk_at dksL_law_72 16 rfl rfl)
theorem dL_law_1844 : decode cL_law 1844 = .ok (.iconst 0, 1) := dk_3 (dk_at dksL_law_72 19 rfl rfl)
theorem dL_law_1845 : decode cL_law 1845 = .ok (.ireturn, 1) := dk_172 (dk_at dksL_law_72 20 rfl rfl)
theorem dL_law_1846 : decode cL_law 1846 = .ok (.iload 5, 2) := dk_21 5 (dk_at dksL_law_72 21 rfl rfl)
theorem dL_law_1848 : decode cL_law 1848 = .ok (.ifCond .ne 15, 3) := dk_154 0 15 (dk_at dksL_law_73 0 rfl rfl)
theorem dL_law_1851 : decode cL_law 1851 = .ok (.aload_n 3, 1) := dk_45 (dk_at dksL_law_73 3 rfl rfl)
theorem dL_law_1852 : decode cL_law 1852 = .ok (.iconst 0, 1) := dk_3 (dk_at dksL_law_73 4 rfl rfl)
theorem dL_law_1853 : decode cL_law 1853 = .ok (.laload, 1) := dk_47 (dk_at dksL_law_73 5 rfl rfl)
theorem dL_law_1854 : decode cL_law 1854 = .ok (.iload 6, 2) := dk_21 6 (dk_at dksL_law_73 6 rfl rfl)
theorem dL_law_1856 : decode cL_law 1856 = .ok (.i2l, 1) := dk_133 (dk_at dksL_law_73 8 rfl rfl)
theorem dL_law_1857 : decode cL_law 1857 = .ok (.lcmp, 1) := dk_148 (dk_at dksL_law_73 9 rfl rfl)
theorem dL_law_1858 : decode cL_law 1858 = .ok (.ifCond .eq 5, 3) := dk_153 0 5 (dk_at dksL_law_73 10 rfl rfl)
theorem dL_law_1861 : decode cL_law 1861 = .ok (.iconst 0, 1) := dk_3 (dk_at dksL_law_73 13 rfl rfl)
theorem dL_law_1862 : decode cL_law 1862 = .ok (.ireturn, 1) := dk_172 (dk_at dksL_law_73 14 rfl rfl)
theorem dL_law_1863 : decode cL_law 1863 = .ok (.goto 510, 3) := dk_167 1 254 (dk_at dksL_law_73 15 rfl rfl)
theorem dL_law_1866 : decode cL_law 1866 = .ok (.aload_n 1, 1) := dk_43 (dk_at dksL_law_73 18 rfl rfl)
theorem dL_law_1867 : decode cL_law 1867 = .ok (.aload_n 0, 1) := dk_42 (dk_at dksL_law_73 19 rfl rfl)
theorem dL_law_1868 : decode cL_law 1868 = .ok (.iload 4, 2) := dk_21 4 (dk_at dksL_law_73 20 rfl rfl)
theorem dL_law_1870 : decode cL_law 1870 = .ok (.iconst 1, 1) := dk_4 (dk_at dksL_law_73 22 rfl rfl)
theorem dL_law_1871 : decode cL_law 1871 = .ok (.iadd, 1) := dk_96 (dk_at dksL_law_73 23 rfl rfl)
theorem dL_law_1872 : decode cL_law 1872 = .ok (.iaload, 1) := dk_46 (dk_at dksL_law_74 0 rfl rfl)
theorem dL_law_1873 : decode cL_law 1873 = .ok (.aload_n 0, 1) := dk_42 (dk_at dksL_law_74 1 rfl rfl)
theorem dL_law_1874 : decode cL_law 1874 = .ok (.iload 4, 2) := dk_21 4 (dk_at dksL_law_74 2 rfl rfl)
theorem dL_law_1876 : decode cL_law 1876 = .ok (.iconst 2, 1) := dk_5 (dk_at dksL_law_74 4 rfl rfl)
theorem dL_law_1877 : decode cL_law 1877 = .ok (.iadd, 1) := dk_96 (dk_at dksL_law_74 5 rfl rfl)
theorem dL_law_1878 : decode cL_law 1878 = .ok (.iaload, 1) := dk_46 (dk_at dksL_law_74 6 rfl rfl)
theorem dL_law_1879 : decode cL_law 1879 = .ok (.aload_n 0, 1) := dk_42 (dk_at dksL_law_74 7 rfl rfl)
theorem dL_law_1880 : decode cL_law 1880 = .ok (.iload 4, 2) := dk_21 4 (dk_at dksL_law_74 8 rfl rfl)
theorem dL_law_1882 : decode cL_law 1882 = .ok (.iconst 3, 1) := dk_6 (dk_at dksL_law_74 10 rfl rfl)
theorem dL_law_1883 : decode cL_law 1883 = .ok (.iadd, 1) := dk_96 (dk_at dksL_law_74 11 rfl rfl)
theorem dL_law_1884 : decode cL_law 1884 = .ok (.iaload, 1) := dk_46 (dk_at dksL_law_74 12 rfl rfl)
theorem dL_law_1885 : decode cL_law 1885 = .ok (.aload_n 0, 1) := dk_42 (dk_at dksL_law_74 13 rfl rfl)
theorem dL_law_1886 : decode cL_law 1886 = .ok (.iload 4, 2) := dk_21 4 (dk_at dksL_law_74 14 rfl rfl)
theorem dL_law_1888 : decode cL_law 1888 = .ok (.iconst 4, 1) := dk_7 (dk_at dksL_law_74 16 rfl rfl)
theorem dL_law_1889 : decode cL_law 1889 = .ok (.iadd, 1) := dk_96 (dk_at dksL_law_74 17 rfl rfl)
theorem dL_law_1890 : decode cL_law 1890 = .ok (.iaload, 1) := dk_46 (dk_at dksL_law_74 18 rfl rfl)
theorem dL_law_1891 : decode cL_law 1891 = .ok (.aload_n 3, 1) := dk_45 (dk_at dksL_law_74 19 rfl rfl)
theorem dL_law_1892 : decode cL_law 1892 = .ok (.invokestatic 215, 3) := dk_184 0 215 (dk_at dksL_law_74 20 rfl rfl)
theorem dL_law_1895 : decode cL_law 1895 = .ok (.istore 5, 2) := dk_54 5 (dk_at dksL_law_75 0 rfl rfl)
theorem dL_law_1897 : decode cL_law 1897 = .ok (.aload_n 2, 1) := dk_44 (dk_at dksL_law_75 2 rfl rfl)
theorem dL_law_1898 : decode cL_law 1898 = .ok (.aload_n 0, 1) := dk_42 (dk_at dksL_law_75 3 rfl rfl)
theorem dL_law_1899 : decode cL_law 1899 = .ok (.iload 4, 2) := dk_21 4 (dk_at dksL_law_75 4 rfl rfl)
theorem dL_law_1901 : decode cL_law 1901 = .ok (.iconst 1, 1) := dk_4 (dk_at dksL_law_75 6 rfl rfl)
theorem dL_law_1902 : decode cL_law 1902 = .ok (.iadd, 1) := dk_96 (dk_at dksL_law_75 7 rfl rfl)
theorem dL_law_1903 : decode cL_law 1903 = .ok (.iaload, 1) := dk_46 (dk_at dksL_law_75 8 rfl rfl)
theorem dL_law_1904 : decode cL_law 1904 = .ok (.aload_n 0, 1) := dk_42 (dk_at dksL_law_75 9 rfl rfl)
theorem dL_law_1905 : decode cL_law 1905 = .ok (.iload 4, 2) := dk_21 4 (dk_at dksL_law_75 10 rfl rfl)
theorem dL_law_1907 : decode cL_law 1907 = .ok (.iconst 2, 1) := dk_5 (dk_at dksL_law_75 12 rfl rfl)
theorem dL_law_1908 : decode cL_law 1908 = .ok (.iadd, 1) := dk_96 (dk_at dksL_law_75 13 rfl rfl)
theorem dL_law_1909 : decode cL_law 1909 = .ok (.iaload, 1) := dk_46 (dk_at dksL_law_75 14 rfl rfl)
theorem dL_law_1910 : decode cL_law 1910 = .ok (.aload_n 0, 1) := dk_42 (dk_at dksL_law_75 15 rfl rfl)
theorem dL_law_1911 : decode cL_law 1911 = .ok (.iload 4, 2) := dk_21 4 (dk_at dksL_law_75 16 rfl rfl)
theorem dL_law_1913 : decode cL_law 1913 = .ok (.iconst 3, 1) := dk_6 (dk_at dksL_law_75 18 rfl rfl)
theorem dL_law_1914 : decode cL_law 1914 = .ok (.iadd, 1) := dk_96 (dk_at dksL_law_75 19 rfl rfl)
theorem dL_law_1915 : decode cL_law 1915 = .ok (.iaload, 1) := dk_46 (dk_at dksL_law_75 20 rfl rfl)
theorem dL_law_1916 : decode cL_law 1916 = .ok (.aload_n 0, 1) := dk_42 (dk_at dksL_law_75 21 rfl rfl)
theorem dL_law_1917 : decode cL_law 1917 = .ok (.iload 4, 2) := dk_21 4 (dk_at dksL_law_75 22 rfl rfl)
theorem dL_law_1919 : decode cL_law 1919 = .ok (.iconst 4, 1) := dk_7 (dk_at dksL_law_76 0 rfl rfl)
theorem dL_law_1920 : decode cL_law 1920 = .ok (.iadd, 1) := dk_96 (dk_at dksL_law_76 1 rfl rfl)
theorem dL_law_1921 : decode cL_law 1921 = .ok (.iaload, 1) := dk_46 (dk_at dksL_law_76 2 rfl rfl)
theorem dL_law_1922 : decode cL_law 1922 = .ok (.invokevirtual 217, 3) := dk_182 0 217 (dk_at dksL_law_76 3 rfl rfl)
theorem dL_law_1925 : decode cL_law 1925 = .ok (.istore 6, 2) := dk_54 6 (dk_at dksL_law_76 6 rfl rfl)
theorem dL_law_1927 : decode cL_law 1927 = .ok (.aload_n 2, 1) := dk_44 (dk_at dksL_law_76 8 rfl rfl)
theorem dL_law_1928 : decode cL_law 1928 = .ok (.invokevirtual 130, 3) := dk_182 0 130 (dk_at dksL_law_76 9 rfl rfl)
theorem dL_law_1931 : decode cL_law 1931 = .ok (.iload 5, 2) := dk_21 5 (dk_at dksL_law_76 12 rfl rfl)
theorem dL_law_1933 : decode cL_law 1933 = .ok (.if_icmp .eq 5, 3) := dk_159 0 5 (dk_at dksL_law_76 14 rfl rfl)
theorem dL_law_1936 : decode cL_law 1936 = .ok (.iconst 0, 1) := dk_3 (dk_at dksL_law_76 17 rfl rfl)
theorem dL_law_1937 : decode cL_law 1937 = .ok (.ireturn, 1) := dk_172 (dk_at dksL_law_76 18 rfl rfl)
theorem dL_law_1938 : decode cL_law 1938 = .ok (.iload 5, 2) := dk_21 5 (dk_at dksL_law_76 19 rfl rfl)
theorem dL_law_1940 : decode cL_law 1940 = .ok (.ifCond .ne 15, 3) := dk_154 0 15 (dk_at dksL_law_76 21 rfl rfl)
theorem dL_law_1943 : decode cL_law 1943 = .ok (.aload_n 3, 1) := dk_45 (dk_at dksL_law_77 0 rfl rfl)
theorem dL_law_1944 : decode cL_law 1944 = .ok (.iconst 0, 1) := dk_3 (dk_at dksL_law_77 1 rfl rfl)
theorem dL_law_1945 : decode cL_law 1945 = .ok (.laload, 1) := dk_47 (dk_at dksL_law_77 2 rfl rfl)
theorem dL_law_1946 : decode cL_law 1946 = .ok (.iload 6, 2) := dk_21 6 (dk_at dksL_law_77 3 rfl rfl)
theorem dL_law_1948 : decode cL_law 1948 = .ok (.i2l, 1) := dk_133 (dk_at dksL_law_77 5 rfl rfl)
theorem dL_law_1949 : decode cL_law 1949 = .ok (.lcmp, 1) := dk_148 (dk_at dksL_law_77 6 rfl rfl)
theorem dL_law_1950 : decode cL_law 1950 = .ok (.ifCond .eq 5, 3) := dk_153 0 5 (dk_at dksL_law_77 7 rfl rfl)
theorem dL_law_1953 : decode cL_law 1953 = .ok (.iconst 0, 1) := dk_3 (dk_at dksL_law_77 10 rfl rfl)
theorem dL_law_1954 : decode cL_law 1954 = .ok (.ireturn, 1) := dk_172 (dk_at dksL_law_77 11 rfl rfl)
theorem dL_law_1955 : decode cL_law 1955 = .ok (.goto 418, 3) := dk_167 1 162 (dk_at dksL_law_77 12 rfl rfl)
theorem dL_law_1958 : decode cL_law 1958 = .ok (.aload_n 1, 1) := dk_43 (dk_at dksL_law_77 15 rfl rfl)
theorem dL_law_1959 : decode cL_law 1959 = .ok (.aload_n 0, 1) := dk_42 (dk_at dksL_law_77 16 rfl rfl)
theorem dL_law_1960 : decode cL_law 1960 = .ok (.iload 4, 2) := dk_21 4 (dk_at dksL_law_77 17 rfl rfl)
theorem dL_law_1962 : decode cL_law 1962 = .ok (.iconst 1, 1) := dk_4 (dk_at dksL_law_77 19 rfl rfl)
theorem dL_law_1963 : decode cL_law 1963 = .ok (.iadd, 1) := dk_96 (dk_at dksL_law_77 20 rfl rfl)
theorem dL_law_1964 : decode cL_law 1964 = .ok (.iaload, 1) := dk_46 (dk_at dksL_law_77 21 rfl rfl)
theorem dL_law_1965 : decode cL_law 1965 = .ok (.aload_n 3, 1) := dk_45 (dk_at dksL_law_77 22 rfl rfl)
theorem dL_law_1966 : decode cL_law 1966 = .ok (.invokestatic 218, 3) := dk_184 0 218 (dk_at dksL_law_78 0 rfl rfl)
theorem dL_law_1969 : decode cL_law 1969 = .ok (.istore 5, 2) := dk_54 5 (dk_at dksL_law_78 3 rfl rfl)
theorem dL_law_1971 : decode cL_law 1971 = .ok (.aload_n 2, 1) := dk_44 (dk_at dksL_law_78 5 rfl rfl)
theorem dL_law_1972 : decode cL_law 1972 = .ok (.aload_n 0, 1) := dk_42 (dk_at dksL_law_78 6 rfl rfl)
theorem dL_law_1973 : decode cL_law 1973 = .ok (.iload 4, 2) := dk_21 4 (dk_at dksL_law_78 7 rfl rfl)
theorem dL_law_1975 : decode cL_law 1975 = .ok (.iconst 1, 1) := dk_4 (dk_at dksL_law_78 9 rfl rfl)
theorem dL_law_1976 : decode cL_law 1976 = .ok (.iadd, 1) := dk_96 (dk_at dksL_law_78 10 rfl rfl)
theorem dL_law_1977 : decode cL_law 1977 = .ok (.iaload, 1) := dk_46 (dk_at dksL_law_78 11 rfl rfl)
theorem dL_law_1978 : decode cL_law 1978 = .ok (.invokevirtual 220, 3) := dk_182 0 220 (dk_at dksL_law_78 12 rfl rfl)
theorem dL_law_1981 : decode cL_law 1981 = .ok (.istore 6, 2) := dk_54 6 (dk_at dksL_law_78 15 rfl rfl)
theorem dL_law_1983 : decode cL_law 1983 = .ok (.aload_n 2, 1) := dk_44 (dk_at dksL_law_78 17 rfl rfl)
theorem dL_law_1984 : decode cL_law 1984 = .ok (.invokevirtual 130, 3) := dk_182 0 130 (dk_at dksL_law_78 18 rfl rfl)
theorem dL_law_1987 : decode cL_law 1987 = .ok (.iload 5, 2) := dk_21 5 (dk_at dksL_law_78 21 rfl rfl)
theorem dL_law_1989 : decode cL_law 1989 = .ok (.if_icmp .eq 5, 3) := dk_159 0 5 (dk_at dksL_law_79 0 rfl rfl)
theorem dL_law_1992 : decode cL_law 1992 = .ok (.iconst 0, 1) := dk_3 (dk_at dksL_law_79 3 rfl rfl)
theorem dL_law_1993 : decode cL_law 1993 = .ok (.ireturn, 1) := dk_172 (dk_at dksL_law_79 4 rfl rfl)
theorem dL_law_1994 : decode cL_law 1994 = .ok (.iload 5, 2) := dk_21 5 (dk_at dksL_law_79 5 rfl rfl)
theorem dL_law_1996 : decode cL_law 1996 = .ok (.ifCond .ne 15, 3) := dk_154 0 15 (dk_at dksL_law_79 7 rfl rfl)
theorem dL_law_1999 : decode cL_law 1999 = .ok (.aload_n 3, 1) := dk_45 (dk_at dksL_law_79 10 rfl rfl)
theorem dL_law_2000 : decode cL_law 2000 = .ok (.iconst 0, 1) := dk_3 (dk_at dksL_law_79 11 rfl rfl)
theorem dL_law_2001 : decode cL_law 2001 = .ok (.laload, 1) := dk_47 (dk_at dksL_law_79 12 rfl rfl)
theorem dL_law_2002 : decode cL_law 2002 = .ok (.iload 6, 2) := dk_21 6 (dk_at dksL_law_79 13 rfl rfl)
theorem dL_law_2004 : decode cL_law 2004 = .ok (.i2l, 1) := dk_133 (dk_at dksL_law_79 15 rfl rfl)
theorem dL_law_2005 : decode cL_law 2005 = .ok (.lcmp, 1) := dk_148 (dk_at dksL_law_79 16 rfl rfl)
theorem dL_law_2006 : decode cL_law 2006 = .ok (.ifCond .eq 5, 3) := dk_153 0 5 (dk_at dksL_law_79 17 rfl rfl)
theorem dL_law_2009 : decode cL_law 2009 = .ok (.iconst 0, 1) := dk_3 (dk_at dksL_law_79 20 rfl rfl)
theorem dL_law_2010 : decode cL_law 2010 = .ok (.ireturn, 1) := dk_172 (dk_at dksL_law_79 21 rfl rfl)
theorem dL_law_2011 : decode cL_law 2011 = .ok (.goto 362, 3) := dk_167 1 106 (dk_at dksL_law_80 0 rfl rfl)
theorem dL_law_2014 : decode cL_law 2014 = .ok (.aload_n 1, 1) := dk_43 (dk_at dksL_law_80 3 rfl rfl)
theorem dL_law_2015 : decode cL_law 2015 = .ok (.aload_n 0, 1) := dk_42 (dk_at dksL_law_80 4 rfl rfl)
theorem dL_law_2016 : decode cL_law 2016 = .ok (.iload 4, 2) := dk_21 4 (dk_at dksL_law_80 5 rfl rfl)
theorem dL_law_2018 : decode cL_law 2018 = .ok (.iconst 1, 1) := dk_4 (dk_at dksL_law_80 7 rfl rfl)
theorem dL_law_2019 : decode cL_law 2019 = .ok (.iadd, 1) := dk_96 (dk_at dksL_law_80 8 rfl rfl)
theorem dL_law_2020 : decode cL_law 2020 = .ok (.iaload, 1) := dk_46 (dk_at dksL_law_80 9 rfl rfl)
theorem dL_law_2021 : decode cL_law 2021 = .ok (.aload_n 3, 1) := dk_45 (dk_at dksL_law_80 10 rfl rfl)
theorem dL_law_2022 : decode cL_law 2022 = .ok (.invokestatic 221, 3) := dk_184 0 221 (dk_at dksL_law_80 11 rfl rfl)
theorem dL_law_2025 : decode cL_law 2025 = .ok (.istore 5, 2) := dk_54 5 (dk_at dksL_law_80 14 rfl rfl)
theorem dL_law_2027 : decode cL_law 2027 = .ok (.aload_n 2, 1) := dk_44 (dk_at dksL_law_80 16 rfl rfl)
theorem dL_law_2028 : decode cL_law 2028 = .ok (.aload_n 0, 1) := dk_42 (dk_at dksL_law_80 17 rfl rfl)
theorem dL_law_2029 : decode cL_law 2029 = .ok (.iload 4, 2) := dk_21 4 (dk_at dksL_law_80 18 rfl rfl)
theorem dL_law_2031 : decode cL_law 2031 = .ok (.iconst 1, 1) := dk_4 (dk_at dksL_law_80 20 rfl rfl)
theorem dL_law_2032 : decode cL_law 2032 = .ok (.iadd, 1) := dk_96 (dk_at dksL_law_80 21 rfl rfl)
theorem dL_law_2033 : decode cL_law 2033 = .ok (.iaload, 1) := dk_46 (dk_at dksL_law_80 22 rfl rfl)
theorem dL_law_2034 : decode cL_law 2034 = .ok (.invokevirtual 223, 3) := dk_182 0 223 (dk_at dksL_law_81 0 rfl rfl)
theorem dL_law_2037 : decode cL_law 2037 = .ok (.istore 6, 2) := dk_54 6 (dk_at dksL_law_81 3 rfl rfl)
theorem dL_law_2039 : decode cL_law 2039 = .ok (.aload_n 2, 1) := dk_44 (dk_at dksL_law_81 5 rfl rfl)
theorem dL_law_2040 : decode cL_law 2040 = .ok (.invokevirtual 130, 3) := dk_182 0 130 (dk_at dksL_law_81 6 rfl rfl)
theorem dL_law_2043 : decode cL_law 2043 = .ok (.iload 5, 2) := dk_21 5 (dk_at dksL_law_81 9 rfl rfl)
theorem dL_law_2045 : decode cL_law 2045 = .ok (.if_icmp .eq 5, 3) := dk_159 0 5 (dk_at dksL_law_81 11 rfl rfl)
theorem dL_law_2048 : decode cL_law 2048 = .ok (.iconst 0, 1) := dk_3 (dk_at dksL_law_81 14 rfl rfl)
theorem dL_law_2049 : decode cL_law 2049 = .ok (.ireturn, 1) := dk_172 (dk_at dksL_law_81 15 rfl rfl)
theorem dL_law_2050 : decode cL_law 2050 = .ok (.iload 5, 2) := dk_21 5 (dk_at dksL_law_81 16 rfl rfl)
theorem dL_law_2052 : decode cL_law 2052 = .ok (.ifCond .ne 15, 3) := dk_154 0 15 (dk_at dksL_law_81 18 rfl rfl)
theorem dL_law_2055 : decode cL_law 2055 = .ok (.aload_n 3, 1) := dk_45 (dk_at dksL_law_81 21 rfl rfl)
theorem dL_law_2056 : decode cL_law 2056 = .ok (.iconst 0, 1) := dk_3 (dk_at dksL_law_81 22 rfl rfl)
theorem dL_law_2057 : decode cL_law 2057 = .ok (.laload, 1) := dk_47 (dk_at dksL_law_81 23 rfl rfl)
theorem dL_law_2058 : decode cL_law 2058 = .ok (.iload 6, 2) := dk_21 6 (dk_at dksL_law_82 0 rfl rfl)
theorem dL_law_2060 : decode cL_law 2060 = .ok (.i2l, 1) := dk_133 (dk_at dksL_law_82 2 rfl rfl)
theorem dL_law_2061 : decode cL_law 2061 = .ok (.lcmp, 1) := dk_148 (dk_at dksL_law_82 3 rfl rfl)
theorem dL_law_2062 : decode cL_law 2062 = .ok (.ifCond .eq 5, 3) := dk_153 0 5 (dk_at dksL_law_82 4 rfl rfl)
theorem dL_law_2065 : decode cL_law 2065 = .ok (.iconst 0, 1) := dk_3 (dk_at dksL_law_82 7 rfl rfl)
theorem dL_law_2066 : decode cL_law 2066 = .ok (.ireturn, 1) := dk_172 (dk_at dksL_law_82 8 rfl rfl)
theorem dL_law_2067 : decode cL_law 2067 = .ok (.goto 306, 3) := dk_167 1 50 (dk_at dksL_law_82 9 rfl rfl)
theorem dL_law_2070 : decode cL_law 2070 = .ok (.aload_n 1, 1) := dk_43 (dk_at dksL_law_82 12 rfl rfl)
theorem dL_law_2071 : decode cL_law 2071 = .ok (.aload_n 0, 1) := dk_42 (dk_at dksL_law_82 13 rfl rfl)
theorem dL_law_2072 : decode cL_law 2072 = .ok (.iload 4, 2) := dk_21 4 (dk_at dksL_law_82 14 rfl rfl)
theorem dL_law_2074 : decode cL_law 2074 = .ok (.iconst 1, 1) := dk_4 (dk_at dksL_law_82 16 rfl rfl)
theorem dL_law_2075 : decode cL_law 2075 = .ok (.iadd, 1) := dk_96 (dk_at dksL_law_82 17 rfl rfl)
theorem dL_law_2076 : decode cL_law 2076 = .ok (.iaload, 1) := dk_46 (dk_at dksL_law_82 18 rfl rfl)
theorem dL_law_2077 : decode cL_law 2077 = .ok (.aload_n 3, 1) := dk_45 (dk_at dksL_law_82 19 rfl rfl)
theorem dL_law_2078 : decode cL_law 2078 = .ok (.invokestatic 224, 3) := dk_184 0 224 (dk_at dksL_law_82 20 rfl rfl)
theorem dL_law_2081 : decode cL_law 2081 = .ok (.istore 5, 2) := dk_54 5 (dk_at dksL_law_83 0 rfl rfl)
theorem dL_law_2083 : decode cL_law 2083 = .ok (.aload_n 2, 1) := dk_44 (dk_at dksL_law_83 2 rfl rfl)
theorem dL_law_2084 : decode cL_law 2084 = .ok (.aload_n 0, 1) := dk_42 (dk_at dksL_law_83 3 rfl rfl)
theorem dL_law_2085 : decode cL_law 2085 = .ok (.iload 4, 2) := dk_21 4 (dk_at dksL_law_83 4 rfl rfl)
theorem dL_law_2087 : decode cL_law 2087 = .ok (.iconst 1, 1) := dk_4 (dk_at dksL_law_83 6 rfl rfl)
theorem dL_law_2088 : decode cL_law 2088 = .ok (.iadd, 1) := dk_96 (dk_at dksL_law_83 7 rfl rfl)
theorem dL_law_2089 : decode cL_law 2089 = .ok (.iaload, 1) := dk_46 (dk_at dksL_law_83 8 rfl rfl)
theorem dL_law_2090 : decode cL_law 2090 = .ok (.invokevirtual 226, 3) := dk_182 0 226 (dk_at dksL_law_83 9 rfl rfl)
theorem dL_law_2093 : decode cL_law 2093 = .ok (.istore 6, 2) := dk_54 6 (dk_at dksL_law_83 12 rfl rfl)
theorem dL_law_2095 : decode cL_law 2095 = .ok (.aload_n 2, 1) := dk_44 (dk_at dksL_law_83 14 rfl rfl)
theorem dL_law_2096 : decode cL_law 2096 = .ok (.invokevirtual 130, 3) := dk_182 0 130 (dk_at dksL_law_83 15 rfl rfl)
theorem dL_law_2099 : decode cL_law 2099 = .ok (.iload 5, 2) := dk_21 5 (dk_at dksL_law_83 18 rfl rfl)
theorem dL_law_2101 : decode cL_law 2101 = .ok (.if_icmp .eq 5, 3) := dk_159 0 5 (dk_at dksL_law_83 20 rfl rfl)
theorem dL_law_2104 : decode cL_law 2104 = .ok (.iconst 0, 1) := dk_3 (dk_at dksL_law_83 23 rfl rfl)
theorem dL_law_2105 : decode cL_law 2105 = .ok (.ireturn, 1) := dk_172 (dk_at dksL_law_84 0 rfl rfl)
theorem dL_law_2106 : decode cL_law 2106 = .ok (.iload 5, 2) := dk_21 5 (dk_at dksL_law_84 1 rfl rfl)
theorem dL_law_2108 : decode cL_law 2108 = .ok (.ifCond .ne 15, 3) := dk_154 0 15 (dk_at dksL_law_84 3 rfl rfl)
theorem dL_law_2111 : decode cL_law 2111 = .ok (.aload_n 3, 1) := dk_45 (dk_at dksL_law_84 6 rfl rfl)
theorem dL_law_2112 : decode cL_law 2112 = .ok (.iconst 0, 1) := dk_3 (dk_at dksL_law_84 7 rfl rfl)
theorem dL_law_2113 : decode cL_law 2113 = .ok (.laload, 1) := dk_47 (dk_at dksL_law_84 8 rfl rfl)
theorem dL_law_2114 : decode cL_law 2114 = .ok (.iload 6, 2) := dk_21 6 (dk_at dksL_law_84 9 rfl rfl)
theorem dL_law_2116 : decode cL_law 2116 = .ok (.i2l, 1) := dk_133 (dk_at dksL_law_84 11 rfl rfl)
theorem dL_law_2117 : decode cL_law 2117 = .ok (.lcmp, 1) := dk_148 (dk_at dksL_law_84 12 rfl rfl)
theorem dL_law_2118 : decode cL_law 2118 = .ok (.ifCond .eq 5, 3) := dk_153 0 5 (dk_at dksL_law_84 13 rfl rfl)
theorem dL_law_2121 : decode cL_law 2121 = .ok (.iconst 0, 1) := dk_3 (dk_at dksL_law_84 16 rfl rfl)
theorem dL_law_2122 : decode cL_law 2122 = .ok (.ireturn, 1) := dk_172 (dk_at dksL_law_84 17 rfl rfl)
theorem dL_law_2123 : decode cL_law 2123 = .ok (.goto 250, 3) := dk_167 0 250 (dk_at dksL_law_84 18 rfl rfl)
theorem dL_law_2126 : decode cL_law 2126 = .ok (.aload_n 1, 1) := dk_43 (dk_at dksL_law_84 21 rfl rfl)
theorem dL_law_2127 : decode cL_law 2127 = .ok (.invokevirtual 227, 3) := dk_182 0 227 (dk_at dksL_law_85 0 rfl rfl)
theorem dL_law_2130 : decode cL_law 2130 = .ok (.aload_n 2, 1) := dk_44 (dk_at dksL_law_85 3 rfl rfl)
theorem dL_law_2131 : decode cL_law 2131 = .ok (.invokevirtual 230, 3) := dk_182 0 230 (dk_at dksL_law_85 4 rfl rfl)
theorem dL_law_2134 : decode cL_law 2134 = .ok (.if_icmp .eq 239, 3) := dk_159 0 239 (dk_at dksL_law_85 7 rfl rfl)
theorem dL_law_2137 : decode cL_law 2137 = .ok (.iconst 0, 1) := dk_3 (dk_at dksL_law_85 10 rfl rfl)
theorem dL_law_2138 : decode cL_law 2138 = .ok (.ireturn, 1) := dk_172 (dk_at dksL_law_85 11 rfl rfl)
theorem dL_law_2139 : decode cL_law 2139 = .ok (.aload_n 1, 1) := dk_43 (dk_at dksL_law_85 12 rfl rfl)
theorem dL_law_2140 : decode cL_law 2140 = .ok (.aload_n 0, 1) := dk_42 (dk_at dksL_law_85 13 rfl rfl)
theorem dL_law_2141 : decode cL_law 2141 = .ok (.iload 4, 2) := dk_21 4 (dk_at dksL_law_85 14 rfl rfl)
theorem dL_law_2143 : decode cL_law 2143 = .ok (.iconst 1, 1) := dk_4 (dk_at dksL_law_85 16 rfl rfl)
theorem dL_law_2144 : decode cL_law 2144 = .ok (.iadd, 1) := dk_96 (dk_at dksL_law_85 17 rfl rfl)
theorem dL_law_2145 : decode cL_law 2145 = .ok (.iaload, 1) := dk_46 (dk_at dksL_law_85 18 rfl rfl)
theorem dL_law_2146 : decode cL_law 2146 = .ok (.aload_n 3, 1) := dk_45 (dk_at dksL_law_85 19 rfl rfl)
theorem dL_law_2147 : decode cL_law 2147 = .ok (.invokestatic 231, 3) := dk_184 0 231 (dk_at dksL_law_85 20 rfl rfl)
theorem dL_law_2150 : decode cL_law 2150 = .ok (.istore 5, 2) := dk_54 5 (dk_at dksL_law_86 0 rfl rfl)
theorem dL_law_2152 : decode cL_law 2152 = .ok (.aload_n 2, 1) := dk_44 (dk_at dksL_law_86 2 rfl rfl)
theorem dL_law_2153 : decode cL_law 2153 = .ok (.aload_n 0, 1) := dk_42 (dk_at dksL_law_86 3 rfl rfl)
theorem dL_law_2154 : decode cL_law 2154 = .ok (.iload 4, 2) := dk_21 4 (dk_at dksL_law_86 4 rfl rfl)
theorem dL_law_2156 : decode cL_law 2156 = .ok (.iconst 1, 1) := dk_4 (dk_at dksL_law_86 6 rfl rfl)
theorem dL_law_2157 : decode cL_law 2157 = .ok (.iadd, 1) := dk_96 (dk_at dksL_law_86 7 rfl rfl)
theorem dL_law_2158 : decode cL_law 2158 = .ok (.iaload, 1) := dk_46 (dk_at dksL_law_86 8 rfl rfl)
theorem dL_law_2159 : decode cL_law 2159 = .ok (.invokevirtual 233, 3) := dk_182 0 233 (dk_at dksL_law_86 9 rfl rfl)
theorem dL_law_2162 : decode cL_law 2162 = .ok (.istore 6, 2) := dk_54 6 (dk_at dksL_law_86 12 rfl rfl)
theorem dL_law_2164 : decode cL_law 2164 = .ok (.aload_n 2, 1) := dk_44 (dk_at dksL_law_86 14 rfl rfl)
theorem dL_law_2165 : decode cL_law 2165 = .ok (.invokevirtual 130, 3) := dk_182 0 130 (dk_at dksL_law_86 15 rfl rfl)
theorem dL_law_2168 : decode cL_law 2168 = .ok (.iload 5, 2) := dk_21 5 (dk_at dksL_law_86 18 rfl rfl)
theorem dL_law_2170 : decode cL_law 2170 = .ok (.if_icmp .eq 5, 3) := dk_159 0 5 (dk_at dksL_law_86 20 rfl rfl)
theorem dL_law_2173 : decode cL_law 2173 = .ok (.iconst 0, 1) := dk_3 (dk_at dksL_law_86 23 rfl rfl)
theorem dL_law_2174 : decode cL_law 2174 = .ok (.ireturn, 1) := dk_172 (dk_at dksL_law_87 0 rfl rfl)
theorem dL_law_2175 : decode cL_law 2175 = .ok (.iload 5, 2) := dk_21 5 (dk_at dksL_law_87 1 rfl rfl)
theorem dL_law_2177 : decode cL_law 2177 = .ok (.ifCond .ne 15, 3) := dk_154 0 15 (dk_at dksL_law_87 3 rfl rfl)
theorem dL_law_2180 : decode cL_law 2180 = .ok (.aload_n 3, 1) := dk_45 (dk_at dksL_law_87 6 rfl rfl)
theorem dL_law_2181 : decode cL_law 2181 = .ok (.iconst 0, 1) := dk_3 (dk_at dksL_law_87 7 rfl rfl)
theorem dL_law_2182 : decode cL_law 2182 = .ok (.laload, 1) := dk_47 (dk_at dksL_law_87 8 rfl rfl)
theorem dL_law_2183 : decode cL_law 2183 = .ok (.iload 6, 2) := dk_21 6 (dk_at dksL_law_87 9 rfl rfl)
theorem dL_law_2185 : decode cL_law 2185 = .ok (.i2l, 1) := dk_133 (dk_at dksL_law_87 11 rfl rfl)
theorem dL_law_2186 : decode cL_law 2186 = .ok (.lcmp, 1) := dk_148 (dk_at dksL_law_87 12 rfl rfl)
theorem dL_law_2187 : decode cL_law 2187 = .ok (.ifCond .eq 5, 3) := dk_153 0 5 (dk_at dksL_law_87 13 rfl rfl)
theorem dL_law_2190 : decode cL_law 2190 = .ok (.iconst 0, 1) := dk_3 (dk_at dksL_law_87 16 rfl rfl)
theorem dL_law_2191 : decode cL_law 2191 = .ok (.ireturn, 1) := dk_172 (dk_at dksL_law_87 17 rfl rfl)
theorem dL_law_2192 : decode cL_law 2192 = .ok (.goto 181, 3) := dk_167 0 181 (dk_at dksL_law_87 18 rfl rfl)
theorem dL_law_2195 : decode cL_law 2195 = .ok (.aload_n 1, 1) := dk_43 (dk_at dksL_law_87 21 rfl rfl)
theorem dL_law_2196 : decode cL_law 2196 = .ok (.invokevirtual 234, 3) := dk_182 0 234 (dk_at dksL_law_88 0 rfl rfl)
theorem dL_law_2199 : decode cL_law 2199 = .ok (.dstore 5, 2) := dk_57 5 (dk_at dksL_law_88 3 rfl rfl)
theorem dL_law_2201 : decode cL_law 2201 = .ok (.aload_n 2, 1) := dk_44 (dk_at dksL_law_88 5 rfl rfl)
theorem dL_law_2202 : decode cL_law 2202 = .ok (.invokevirtual 238, 3) := dk_182 0 238 (dk_at dksL_law_88 6 rfl rfl)
theorem dL_law_2205 : decode cL_law 2205 = .ok (.dstore 7, 2) := dk_57 7 (dk_at dksL_law_88 9 rfl rfl)
theorem dL_law_2207 : decode cL_law 2207 = .ok (.dload 5, 2) := dk_24 5 (dk_at dksL_law_88 11 rfl rfl)
theorem dL_law_2209 : decode cL_law 2209 = .ok (.dload 7, 2) := dk_24 7 (dk_at dksL_law_88 13 rfl rfl)
theorem dL_law_2211 : decode cL_law 2211 = .ok (.dcmp .l, 1) := dk_151 (dk_at dksL_law_88 15 rfl rfl)
theorem dL_law_2212 : decode cL_law 2212 = .ok (.ifCond .eq 21, 3) := dk_153 0 21 (dk_at dksL_law_88 16 rfl rfl)
theorem dL_law_2215 : decode cL_law 2215 = .ok (.dload 5, 2) := dk_24 5 (dk_at dksL_law_88 19 rfl rfl)
theorem dL_law_2217 : decode cL_law 2217 = .ok (.dload 5, 2) := dk_24 5 (dk_at dksL_law_88 21 rfl rfl)
theorem dL_law_2219 : decode cL_law 2219 = .ok (.dcmp .l, 1) := dk_151 (dk_at dksL_law_88 23 rfl rfl)
theorem dL_law_2220 : decode cL_law 2220 = .ok (.ifCond .eq 11, 3) := dk_153 0 11 (dk_at dksL_law_89 0 rfl rfl)
theorem dL_law_2223 : decode cL_law 2223 = .ok (.dload 7, 2) := dk_24 7 (dk_at dksL_law_89 3 rfl rfl)
theorem dL_law_2225 : decode cL_law 2225 = .ok (.dload 7, 2) := dk_24 7 (dk_at dksL_law_89 5 rfl rfl)
theorem dL_law_2227 : decode cL_law 2227 = .ok (.dcmp .l, 1) := dk_151 (dk_at dksL_law_89 7 rfl rfl)
theorem dL_law_2228 : decode cL_law 2228 = .ok (.ifCond .ne 5, 3) := dk_154 0 5 (dk_at dksL_law_89 8 rfl rfl)
theorem dL_law_2231 : decode cL_law 2231 = .ok (.iconst 0, 1) := dk_3 (dk_at dksL_law_89 11 rfl rfl)
theorem dL_law_2232 : decode cL_law 2232 = .ok (.ireturn, 1) := dk_172 (dk_at dksL_law_89 12 rfl rfl)
theorem dL_law_2233 : decode cL_law 2233 = .ok (.goto 140, 3) := dk_167 0 140 (dk_at dksL_law_89 13 rfl rfl)
theorem dL_law_2236 : decode cL_law 2236 = .ok (.aload_n 1, 1) := dk_43 (dk_at dksL_law_89 16 rfl rfl)
theorem dL_law_2237 : decode cL_law 2237 = .ok (.aload_n 0, 1) := dk_42 (dk_at dksL_law_89 17 rfl rfl)
theorem dL_law_2238 : decode cL_law 2238 = .ok (.iload 4, 2) := dk_21 4 (dk_at dksL_law_89 18 rfl rfl)
theorem dL_law_2240 : decode cL_law 2240 = .ok (.iconst 1, 1) := dk_4 (dk_at dksL_law_89 20 rfl rfl)
theorem dL_law_2241 : decode cL_law 2241 = .ok (.iadd, 1) := dk_96 (dk_at dksL_law_89 21 rfl rfl)
theorem dL_law_2242 : decode cL_law 2242 = .ok (.iaload, 1) := dk_46 (dk_at dksL_law_89 22 rfl rfl)
theorem dL_law_2243 : decode cL_law 2243 = .ok (.aload_n 3, 1) := dk_45 (dk_at dksL_law_89 23 rfl rfl)
theorem dL_law_2244 : decode cL_law 2244 = .ok (.invokestatic 239, 3) := dk_184 0 239 (dk_at dksL_law_90 0 rfl rfl)
theorem dL_law_2247 : decode cL_law 2247 = .ok (.istore 5, 2) := dk_54 5 (dk_at dksL_law_90 3 rfl rfl)
theorem dL_law_2249 : decode cL_law 2249 = .ok (.aload_n 2, 1) := dk_44 (dk_at dksL_law_90 5 rfl rfl)
theorem dL_law_2250 : decode cL_law 2250 = .ok (.aload_n 0, 1) := dk_42 (dk_at dksL_law_90 6 rfl rfl)
theorem dL_law_2251 : decode cL_law 2251 = .ok (.iload 4, 2) := dk_21 4 (dk_at dksL_law_90 7 rfl rfl)
theorem dL_law_2253 : decode cL_law 2253 = .ok (.iconst 1, 1) := dk_4 (dk_at dksL_law_90 9 rfl rfl)
theorem dL_law_2254 : decode cL_law 2254 = .ok (.iadd, 1) := dk_96 (dk_at dksL_law_90 10 rfl rfl)
theorem dL_law_2255 : decode cL_law 2255 = .ok (.iaload, 1) := dk_46 (dk_at dksL_law_90 11 rfl rfl)
theorem dL_law_2256 : decode cL_law 2256 = .ok (.invokevirtual 241, 3) := dk_182 0 241 (dk_at dksL_law_90 12 rfl rfl)
theorem dL_law_2259 : decode cL_law 2259 = .ok (.istore 6, 2) := dk_54 6 (dk_at dksL_law_90 15 rfl rfl)
theorem dL_law_2261 : decode cL_law 2261 = .ok (.aload_n 2, 1) := dk_44 (dk_at dksL_law_90 17 rfl rfl)
theorem dL_law_2262 : decode cL_law 2262 = .ok (.invokevirtual 130, 3) := dk_182 0 130 (dk_at dksL_law_90 18 rfl rfl)
theorem dL_law_2265 : decode cL_law 2265 = .ok (.iload 5, 2) := dk_21 5 (dk_at dksL_law_90 21 rfl rfl)
theorem dL_law_2267 : decode cL_law 2267 = .ok (.if_icmp .eq 5, 3) := dk_159 0 5 (dk_at dksL_law_91 0 rfl rfl)
theorem dL_law_2270 : decode cL_law 2270 = .ok (.iconst 0, 1) := dk_3 (dk_at dksL_law_91 3 rfl rfl)
theorem dL_law_2271 : decode cL_law 2271 = .ok (.ireturn, 1) := dk_172 (dk_at dksL_law_91 4 rfl rfl)
theorem dL_law_2272 : decode cL_law 2272 = .ok (.iload 5, 2) := dk_21 5 (dk_at dksL_law_91 5 rfl rfl)
theorem dL_law_2274 : decode cL_law 2274 = .ok (.ifCond .ne 15, 3) := dk_154 0 15 (dk_at dksL_law_91 7 rfl rfl)
theorem dL_law_2277 : decode cL_law 2277 = .ok (.aload_n 3, 1) := dk_45 (dk_at dksL_law_91 10 rfl rfl)
theorem dL_law_2278 : decode cL_law 2278 = .ok (.iconst 0, 1) := dk_3 (dk_at dksL_law_91 11 rfl rfl)
theorem dL_law_2279 : decode cL_law 2279 = .ok (.laload, 1) := dk_47 (dk_at dksL_law_91 12 rfl rfl)
theorem dL_law_2280 : decode cL_law 2280 = .ok (.iload 6, 2) := dk_21 6 (dk_at dksL_law_91 13 rfl rfl)
theorem dL_law_2282 : decode cL_law 2282 = .ok (.i2l, 1) := dk_133 (dk_at dksL_law_91 15 rfl rfl)
theorem dL_law_2283 : decode cL_law 2283 = .ok (.lcmp, 1) := dk_148 (dk_at dksL_law_91 16 rfl rfl)
theorem dL_law_2284 : decode cL_law 2284 = .ok (.ifCond .eq 5, 3) := dk_153 0 5 (dk_at dksL_law_91 17 rfl rfl)
theorem dL_law_2287 : decode cL_law 2287 = .ok (.iconst 0, 1) := dk_3 (dk_at dksL_law_91 20 rfl rfl)
theorem dL_law_2288 : decode cL_law 2288 = .ok (.ireturn, 1) := dk_172 (dk_at dksL_law_91 21 rfl rfl)
theorem dL_law_2289 : decode cL_law 2289 = .ok (.goto 84, 3) := dk_167 0 84 (dk_at dksL_law_92 0 rfl rfl)
theorem dL_law_2292 : decode cL_law 2292 = .ok (.aload_n 1, 1) := dk_43 (dk_at dksL_law_92 3 rfl rfl)
theorem dL_law_2293 : decode cL_law 2293 = .ok (.aload_n 0, 1) := dk_42 (dk_at dksL_law_92 4 rfl rfl)
theorem dL_law_2294 : decode cL_law 2294 = .ok (.iload 4, 2) := dk_21 4 (dk_at dksL_law_92 5 rfl rfl)
theorem dL_law_2296 : decode cL_law 2296 = .ok (.iconst 1, 1) := dk_4 (dk_at dksL_law_92 7 rfl rfl)
theorem dL_law_2297 : decode cL_law 2297 = .ok (.iadd, 1) := dk_96 (dk_at dksL_law_92 8 rfl rfl)
theorem dL_law_2298 : decode cL_law 2298 = .ok (.iaload, 1) := dk_46 (dk_at dksL_law_92 9 rfl rfl)
theorem dL_law_2299 : decode cL_law 2299 = .ok (.aload_n 3, 1) := dk_45 (dk_at dksL_law_92 10 rfl rfl)
theorem dL_law_2300 : decode cL_law 2300 = .ok (.invokestatic 242, 3) := dk_184 0 242 (dk_at dksL_law_92 11 rfl rfl)
theorem dL_law_2303 : decode cL_law 2303 = .ok (.istore 5, 2) := dk_54 5 (dk_at dksL_law_92 14 rfl rfl)
theorem dL_law_2305 : decode cL_law 2305 = .ok (.aload_n 2, 1) := dk_44 (dk_at dksL_law_92 16 rfl rfl)
theorem dL_law_2306 : decode cL_law 2306 = .ok (.aload_n 0, 1) := dk_42 (dk_at dksL_law_92 17 rfl rfl)
theorem dL_law_2307 : decode cL_law 2307 = .ok (.iload 4, 2) := dk_21 4 (dk_at dksL_law_92 18 rfl rfl)
theorem dL_law_2309 : decode cL_law 2309 = .ok (.iconst 1, 1) := dk_4 (dk_at dksL_law_92 20 rfl rfl)
theorem dL_law_2310 : decode cL_law 2310 = .ok (.iadd, 1) := dk_96 (dk_at dksL_law_92 21 rfl rfl)
theorem dL_law_2311 : decode cL_law 2311 = .ok (.iaload, 1) := dk_46 (dk_at dksL_law_92 22 rfl rfl)
theorem dL_law_2312 : decode cL_law 2312 = .ok (.invokevirtual 244, 3) := dk_182 0 244 (dk_at dksL_law_93 0 rfl rfl)
theorem dL_law_2315 : decode cL_law 2315 = .ok (.istore 6, 2) := dk_54 6 (dk_at dksL_law_93 3 rfl rfl)
theorem dL_law_2317 : decode cL_law 2317 = .ok (.aload_n 2, 1) := dk_44 (dk_at dksL_law_93 5 rfl rfl)
theorem dL_law_2318 : decode cL_law 2318 = .ok (.invokevirtual 130, 3) := dk_182 0 130 (dk_at dksL_law_93 6 rfl rfl)
theorem dL_law_2321 : decode cL_law 2321 = .ok (.iload 5, 2) := dk_21 5 (dk_at dksL_law_93 9 rfl rfl)
theorem dL_law_2323 : decode cL_law 2323 = .ok (.if_icmp .eq 5, 3) := dk_159 0 5 (dk_at dksL_law_93 11 rfl rfl)
theorem dL_law_2326 : decode cL_law 2326 = .ok (.iconst 0, 1) := dk_3 (dk_at dksL_law_93 14 rfl rfl)
theorem dL_law_2327 : decode cL_law 2327 = .ok (.ireturn, 1) := dk_172 (dk_at dksL_law_93 15 rfl rfl)
theorem dL_law_2328 : decode cL_law 2328 = .ok (.iload 5, 2) := dk_21 5 (dk_at dksL_law_93 16 rfl rfl)
theorem dL_law_2330 : decode cL_law 2330 = .ok (.ifCond .ne 15, 3) := dk_154 0 15 (dk_at dksL_law_93 18 rfl rfl)
theorem dL_law_2333 : decode cL_law 2333 = .ok (.aload_n 3, 1) := dk_45 (dk_at dksL_law_93 21 rfl rfl)
theorem dL_law_2334 : decode cL_law 2334 = .ok (.iconst 0, 1) := dk_3 (dk_at dksL_law_93 22 rfl rfl)
theorem dL_law_2335 : decode cL_law 2335 = .ok (.laload, 1) := dk_47 (dk_at dksL_law_93 23 rfl rfl)
theorem dL_law_2336 : decode cL_law 2336 = .ok (.iload 6, 2) := dk_21 6 (dk_at dksL_law_94 0 rfl rfl)
theorem dL_law_2338 : decode cL_law 2338 = .ok (.i2l, 1) := dk_133 (dk_at dksL_law_94 2 rfl rfl)
theorem dL_law_2339 : decode cL_law 2339 = .ok (.lcmp, 1) := dk_148 (dk_at dksL_law_94 3 rfl rfl)
theorem dL_law_2340 : decode cL_law 2340 = .ok (.ifCond .eq 5, 3) := dk_153 0 5 (dk_at dksL_law_94 4 rfl rfl)
theorem dL_law_2343 : decode cL_law 2343 = .ok (.iconst 0, 1) := dk_3 (dk_at dksL_law_94 7 rfl rfl)
theorem dL_law_2344 : decode cL_law 2344 = .ok (.ireturn, 1) := dk_172 (dk_at dksL_law_94 8 rfl rfl)
theorem dL_law_2345 : decode cL_law 2345 = .ok (.goto 28, 3) := dk_167 0 28 (dk_at dksL_law_94 9 rfl rfl)
theorem dL_law_2348 : decode cL_law 2348 = .ok (.aload_n 1, 1) := dk_43 (dk_at dksL_law_94 12 rfl rfl)
theorem dL_law_2349 : decode cL_law 2349 = .ok (.aload_n 0, 1) := dk_42 (dk_at dksL_law_94 13 rfl rfl)
theorem dL_law_2350 : decode cL_law 2350 = .ok (.iload 4, 2) := dk_21 4 (dk_at dksL_law_94 14 rfl rfl)
theorem dL_law_2352 : decode cL_law 2352 = .ok (.iconst 1, 1) := dk_4 (dk_at dksL_law_94 16 rfl rfl)
theorem dL_law_2353 : decode cL_law 2353 = .ok (.iadd, 1) := dk_96 (dk_at dksL_law_94 17 rfl rfl)
theorem dL_law_2354 : decode cL_law 2354 = .ok (.iaload, 1) := dk_46 (dk_at dksL_law_94 18 rfl rfl)
theorem dL_law_2355 : decode cL_law 2355 = .ok (.invokevirtual 245, 3) := dk_182 0 245 (dk_at dksL_law_94 19 rfl rfl)
theorem dL_law_2358 : decode cL_law 2358 = .ok (.aload_n 2, 1) := dk_44 (dk_at dksL_law_94 22 rfl rfl)
theorem dL_law_2359 : decode cL_law 2359 = .ok (.aload_n 0, 1) := dk_42 (dk_at dksL_law_94 23 rfl rfl)
theorem dL_law_2360 : decode cL_law 2360 = .ok (.iload 4, 2) := dk_21 4 (dk_at dksL_law_95 0 rfl rfl)
theorem dL_law_2362 : decode cL_law 2362 = .ok (.iconst 1, 1) := dk_4 (dk_at dksL_law_95 2 rfl rfl)
theorem dL_law_2363 : decode cL_law 2363 = .ok (.iadd, 1) := dk_96 (dk_at dksL_law_95 3 rfl rfl)
theorem dL_law_2364 : decode cL_law 2364 = .ok (.iaload, 1) := dk_46 (dk_at dksL_law_95 4 rfl rfl)
theorem dL_law_2365 : decode cL_law 2365 = .ok (.invokevirtual 248, 3) := dk_182 0 248 (dk_at dksL_law_95 5 rfl rfl)
theorem dL_law_2368 : decode cL_law 2368 = .ok (.if_icmp .eq 5, 3) := dk_159 0 5 (dk_at dksL_law_95 8 rfl rfl)
theorem dL_law_2371 : decode cL_law 2371 = .ok (.iconst 0, 1) := dk_3 (dk_at dksL_law_95 11 rfl rfl)
theorem dL_law_2372 : decode cL_law 2372 = .ok (.ireturn, 1) := dk_172 (dk_at dksL_law_95 12 rfl rfl)
theorem dL_law_2373 : decode cL_law 2373 = .ok (.iinc 4 6, 3) := dk_132 4 6 (dk_at dksL_law_95 13 rfl rfl)
theorem dL_law_2376 : decode cL_law 2376 = .ok (.goto (-2353), 3) := dk_167 246 207 (dk_at dksL_law_95 16 rfl rfl)
theorem dL_law_2379 : decode cL_law 2379 = .ok (.iconst 1, 1) := dk_4 (dk_at dksL_law_95 19 rfl rfl)
theorem dL_law_2380 : decode cL_law 2380 = .ok (.ireturn, 1) := dk_172 (dk_at dksL_law_95 20 rfl rfl)
theorem q137 : (Jvm.Cond.initialized "TrailMarkersLaw") ∈ lw_all := lw_g (lw_at lw_m1 0 rfl) rfl
theorem q196 : (Jvm.Cond.classLink "TrailMarkersLaw" (8 : Nat) "TrailMarkers") ∈ lw_all := lw_g (lw_at lw_m1 59 rfl) rfl
theorem q197 : (Jvm.Cond.instantiable "TrailMarkers" (9 : Nat)) ∈ lw_all := lw_g (lw_at lw_m1 60 rfl) rfl
theorem q198 : (Jvm.Cond.methodLink "TrailMarkersLaw" (115 : Nat) ({ cls := "TrailMarkers", name := "<init>", desc := "()V" } : Jvm.MethodName)) ∈ lw_all := lw_g (lw_at lw_m1 61 rfl) rfl
theorem q199 : (Jvm.Cond.instanceMethod ({ cls := "TrailMarkers", name := "<init>", desc := "()V" } : Jvm.MethodName)) ∈ lw_all := lw_g (lw_at lw_m1 62 rfl) rfl
theorem q200 : (Jvm.Cond.codeWith ({ cls := "TrailMarkers", name := "<init>", desc := "()V" } : Jvm.MethodName) prog_1_method_5_code (3 : Nat) (Option.none : Option Jvm.ClassFile.FieldType) [((65 : Nat), (230 : Nat), (233 : Nat), (58 : Nat))]) ∈ lw_all := lw_g (lw_at lw_m1 63 rfl) rfl
theorem q454 : (Jvm.Cond.methodLink "TrailMarkersLaw" (119 : Nat) ({ cls := "TrailMarkers", name := "append", desc := "(IIIII)I" } : Jvm.MethodName)) ∈ lw_all := lw_g (lw_at lw_m2 77 rfl) rfl
theorem q455 : (Jvm.Cond.instanceMethod ({ cls := "TrailMarkers", name := "append", desc := "(IIIII)I" } : Jvm.MethodName)) ∈ lw_all := lw_g (lw_at lw_m2 78 rfl) rfl
theorem q456 : (Jvm.Cond.selects "TrailMarkers" ({ cls := "TrailMarkers", name := "append", desc := "(IIIII)I" } : Jvm.MethodName) ({ cls := "TrailMarkers", name := "append", desc := "(IIIII)I" } : Jvm.MethodName)) ∈ lw_all := lw_g (lw_at lw_m2 79 rfl) rfl
theorem q457 : (Jvm.Cond.code ({ cls := "TrailMarkers", name := "append", desc := "(IIIII)I" } : Jvm.MethodName) prog_1_method_8_code (6 : Nat) (Option.some Jvm.ClassFile.FieldType.int)) ∈ lw_all := lw_g (lw_at lw_m2 80 rfl) rfl
theorem q462 : (Jvm.Cond.methodLink "TrailMarkersLaw" (133 : Nat) ({ cls := "TrailMarkers", name := "load", desc := "()I" } : Jvm.MethodName)) ∈ lw_all := lw_g (lw_at lw_m2 85 rfl) rfl
theorem q463 : (Jvm.Cond.instanceMethod ({ cls := "TrailMarkers", name := "load", desc := "()I" } : Jvm.MethodName)) ∈ lw_all := lw_g (lw_at lw_m2 86 rfl) rfl
theorem q464 : (Jvm.Cond.selects "TrailMarkers" ({ cls := "TrailMarkers", name := "load", desc := "()I" } : Jvm.MethodName) ({ cls := "TrailMarkers", name := "load", desc := "()I" } : Jvm.MethodName)) ∈ lw_all := lw_g (lw_at lw_m2 87 rfl) rfl
theorem q465 : (Jvm.Cond.codeWith ({ cls := "TrailMarkers", name := "load", desc := "()I" } : Jvm.MethodName) prog_1_method_11_code (5 : Nat) (Option.some Jvm.ClassFile.FieldType.int) [((0 : Nat), (40 : Nat), (47 : Nat), (114 : Nat)), ((0 : Nat), (40 : Nat), (73 : Nat), (0 : Nat)), ((47 : Nat), (66 : Nat), (73 : Nat), (0 : Nat)), ((73 : Nat), (75 : Nat), (73 : Nat), (0 : Nat))]) ∈ lw_all := lw_g (lw_at lw_m2 88 rfl) rfl
theorem q1118 : (Jvm.Cond.methodLink "TrailMarkersLaw" (137 : Nat) ({ cls := "TrailMarkers", name := "play", desc := "()I" } : Jvm.MethodName)) ∈ lw_all := lw_g (lw_at lw_m5 21 rfl) rfl
theorem q1119 : (Jvm.Cond.instanceMethod ({ cls := "TrailMarkers", name := "play", desc := "()I" } : Jvm.MethodName)) ∈ lw_all := lw_g (lw_at lw_m5 22 rfl) rfl
theorem q1120 : (Jvm.Cond.selects "TrailMarkers" ({ cls := "TrailMarkers", name := "play", desc := "()I" } : Jvm.MethodName) ({ cls := "TrailMarkers", name := "play", desc := "()I" } : Jvm.MethodName)) ∈ lw_all := lw_g (lw_at lw_m5 23 rfl) rfl
theorem q1121 : (Jvm.Cond.codeWith ({ cls := "TrailMarkers", name := "play", desc := "()I" } : Jvm.MethodName) prog_1_method_12_code (6 : Nat) (Option.some Jvm.ClassFile.FieldType.int) [((8 : Nat), (42 : Nat), (50 : Nat), (114 : Nat)), ((8 : Nat), (42 : Nat), (76 : Nat), (0 : Nat)), ((50 : Nat), (69 : Nat), (76 : Nat), (0 : Nat)), ((76 : Nat), (78 : Nat), (76 : Nat), (0 : Nat))]) ∈ lw_all := lw_g (lw_at lw_m5 24 rfl) rfl
theorem q1130 : (Jvm.Cond.methodLink "TrailMarkersLaw" (227 : Nat) ({ cls := "TrailMarkers", name := "gap", desc := "()I" } : Jvm.MethodName)) ∈ lw_all := lw_g (lw_at lw_m5 33 rfl) rfl
theorem q1131 : (Jvm.Cond.instanceMethod ({ cls := "TrailMarkers", name := "gap", desc := "()I" } : Jvm.MethodName)) ∈ lw_all := lw_g (lw_at lw_m5 34 rfl) rfl
theorem q1132 : (Jvm.Cond.selects "TrailMarkers" ({ cls := "TrailMarkers", name := "gap", desc := "()I" } : Jvm.MethodName) ({ cls := "TrailMarkers", name := "gap", desc := "()I" } : Jvm.MethodName)) ∈ lw_all := lw_g (lw_at lw_m5 35 rfl) rfl
theorem q1133 : (Jvm.Cond.code ({ cls := "TrailMarkers", name := "gap", desc := "()I" } : Jvm.MethodName) prog_1_method_57_code (6 : Nat) (Option.some Jvm.ClassFile.FieldType.int)) ∈ lw_all := lw_g (lw_at lw_m5 36 rfl) rfl
theorem q1361 : (Jvm.Cond.methodLink "TrailMarkersLaw" (234 : Nat) ({ cls := "TrailMarkers", name := "reached", desc := "()D" } : Jvm.MethodName)) ∈ lw_all := lw_g (lw_at lw_m6 24 rfl) rfl
theorem q1362 : (Jvm.Cond.instanceMethod ({ cls := "TrailMarkers", name := "reached", desc := "()D" } : Jvm.MethodName)) ∈ lw_all := lw_g (lw_at lw_m6 25 rfl) rfl
theorem q1363 : (Jvm.Cond.selects "TrailMarkers" ({ cls := "TrailMarkers", name := "reached", desc := "()D" } : Jvm.MethodName) ({ cls := "TrailMarkers", name := "reached", desc := "()D" } : Jvm.MethodName)) ∈ lw_all := lw_g (lw_at lw_m6 26 rfl) rfl
theorem q1364 : (Jvm.Cond.code ({ cls := "TrailMarkers", name := "reached", desc := "()D" } : Jvm.MethodName) prog_1_method_60_code (5 : Nat) (Option.some Jvm.ClassFile.FieldType.double)) ∈ lw_all := lw_g (lw_at lw_m6 27 rfl) rfl
theorem q1383 : (Jvm.Cond.methodLink "TrailMarkersLaw" (245 : Nat) ({ cls := "TrailMarkers", name := "outputByte", desc := "(I)I" } : Jvm.MethodName)) ∈ lw_all := lw_g (lw_at lw_m6 46 rfl) rfl
theorem q1384 : (Jvm.Cond.instanceMethod ({ cls := "TrailMarkers", name := "outputByte", desc := "(I)I" } : Jvm.MethodName)) ∈ lw_all := lw_g (lw_at lw_m6 47 rfl) rfl
theorem q1385 : (Jvm.Cond.selects "TrailMarkers" ({ cls := "TrailMarkers", name := "outputByte", desc := "(I)I" } : Jvm.MethodName) ({ cls := "TrailMarkers", name := "outputByte", desc := "(I)I" } : Jvm.MethodName)) ∈ lw_all := lw_g (lw_at lw_m6 48 rfl) rfl
theorem q1386 : (Jvm.Cond.code ({ cls := "TrailMarkers", name := "outputByte", desc := "(I)I" } : Jvm.MethodName) prog_1_method_67_code (2 : Nat) (Option.some Jvm.ClassFile.FieldType.int)) ∈ lw_all := lw_g (lw_at lw_m6 49 rfl) rfl
theorem q1389 : (Jvm.Cond.methodLink "TrailMarkersLaw" (124 : Nat) ({ cls := "TrailMarkersLaw", name := "truncate", desc := "(LTrailMarkers;I[J)I" } : Jvm.MethodName)) ∈ lw_all := lw_g (lw_at lw_m6 52 rfl) rfl
theorem q1390 : (Jvm.Cond.static ({ cls := "TrailMarkersLaw", name := "truncate", desc := "(LTrailMarkers;I[J)I" } : Jvm.MethodName)) ∈ lw_all := lw_g (lw_at lw_m6 53 rfl) rfl
theorem q1391 : (Jvm.Cond.codeWith ({ cls := "TrailMarkersLaw", name := "truncate", desc := "(LTrailMarkers;I[J)I" } : Jvm.MethodName) method_3_code (4 : Nat) (Option.some Jvm.ClassFile.FieldType.int) [((0 : Nat), (9 : Nat), (12 : Nat), (13 : Nat))]) ∈ lw_all := lw_g (lw_at lw_m6 54 rfl) rfl
theorem q1409 : (Jvm.Cond.methodLink "TrailMarkersLaw" (141 : Nat) ({ cls := "TrailMarkersLaw", name := "error", desc := "(LTrailMarkers;I[J)I" } : Jvm.MethodName)) ∈ lw_all := lw_g (lw_at lw_m6 72 rfl) rfl
theorem q1410 : (Jvm.Cond.static ({ cls := "TrailMarkersLaw", name := "error", desc := "(LTrailMarkers;I[J)I" } : Jvm.MethodName)) ∈ lw_all := lw_g (lw_at lw_m6 73 rfl) rfl
theorem q1411 : (Jvm.Cond.codeWith ({ cls := "TrailMarkersLaw", name := "error", desc := "(LTrailMarkers;I[J)I" } : Jvm.MethodName) method_4_code (4 : Nat) (Option.some Jvm.ClassFile.FieldType.int) [((0 : Nat), (9 : Nat), (12 : Nat), (13 : Nat))]) ∈ lw_all := lw_g (lw_at lw_m6 74 rfl) rfl
theorem q1416 : (Jvm.Cond.methodLink "TrailMarkersLaw" (144 : Nat) ({ cls := "TrailMarkersLaw", name := "addPost", desc := "(LTrailMarkers;IIII[J)I" } : Jvm.MethodName)) ∈ lw_all := lw_g (lw_at lw_m6 79 rfl) rfl
theorem q1417 : (Jvm.Cond.static ({ cls := "TrailMarkersLaw", name := "addPost", desc := "(LTrailMarkers;IIII[J)I" } : Jvm.MethodName)) ∈ lw_all := lw_g (lw_at lw_m6 80 rfl) rfl
theorem q1418 : (Jvm.Cond.codeWith ({ cls := "TrailMarkersLaw", name := "addPost", desc := "(LTrailMarkers;IIII[J)I" } : Jvm.MethodName) method_5_code (7 : Nat) (Option.some Jvm.ClassFile.FieldType.int) [((0 : Nat), (14 : Nat), (17 : Nat), (22 : Nat)), ((0 : Nat), (14 : Nat), (21 : Nat), (13 : Nat)), ((0 : Nat), (14 : Nat), (25 : Nat), (24 : Nat))]) ∈ lw_all := lw_g (lw_at lw_m6 81 rfl) rfl
theorem q1471 : (Jvm.Cond.methodLink "TrailMarkersLaw" (148 : Nat) ({ cls := "TrailMarkersLaw", name := "dropPost", desc := "(LTrailMarkers;I[J)I" } : Jvm.MethodName)) ∈ lw_all := lw_g (lw_at lw_m6 134 rfl) rfl
theorem q1472 : (Jvm.Cond.static ({ cls := "TrailMarkersLaw", name := "dropPost", desc := "(LTrailMarkers;I[J)I" } : Jvm.MethodName)) ∈ lw_all := lw_g (lw_at lw_m6 135 rfl) rfl
theorem q1473 : (Jvm.Cond.codeWith ({ cls := "TrailMarkersLaw", name := "dropPost", desc := "(LTrailMarkers;I[J)I" } : Jvm.MethodName) method_6_code (4 : Nat) (Option.some Jvm.ClassFile.FieldType.int) [((0 : Nat), (9 : Nat), (12 : Nat), (22 : Nat))]) ∈ lw_all := lw_g (lw_at lw_m6 136 rfl) rfl
theorem q1486 : (Jvm.Cond.methodLink "TrailMarkersLaw" (151 : Nat) ({ cls := "TrailMarkersLaw", name := "turn", desc := "(LTrailMarkers;II[J)I" } : Jvm.MethodName)) ∈ lw_all := lw_g (lw_at lw_m6 149 rfl) rfl
theorem q1487 : (Jvm.Cond.static ({ cls := "TrailMarkersLaw", name := "turn", desc := "(LTrailMarkers;II[J)I" } : Jvm.MethodName)) ∈ lw_all := lw_g (lw_at lw_m6 150 rfl) rfl
theorem q1488 : (Jvm.Cond.codeWith ({ cls := "TrailMarkersLaw", name := "turn", desc := "(LTrailMarkers;II[J)I" } : Jvm.MethodName) method_7_code (5 : Nat) (Option.some Jvm.ClassFile.FieldType.int) [((0 : Nat), (10 : Nat), (13 : Nat), (22 : Nat)), ((0 : Nat), (10 : Nat), (17 : Nat), (13 : Nat))]) ∈ lw_all := lw_g (lw_at lw_m6 151 rfl) rfl
theorem q1494 : (Jvm.Cond.methodLink "TrailMarkersLaw" (155 : Nat) ({ cls := "TrailMarkersLaw", name := "lose", desc := "(LTrailMarkers;I[J)I" } : Jvm.MethodName)) ∈ lw_all := lw_g (lw_at lw_m6 157 rfl) rfl
theorem q1495 : (Jvm.Cond.static ({ cls := "TrailMarkersLaw", name := "lose", desc := "(LTrailMarkers;I[J)I" } : Jvm.MethodName)) ∈ lw_all := lw_g (lw_at lw_m6 158 rfl) rfl
theorem q1496 : (Jvm.Cond.codeWith ({ cls := "TrailMarkersLaw", name := "lose", desc := "(LTrailMarkers;I[J)I" } : Jvm.MethodName) method_8_code (4 : Nat) (Option.some Jvm.ClassFile.FieldType.int) [((0 : Nat), (9 : Nat), (12 : Nat), (22 : Nat)), ((0 : Nat), (9 : Nat), (15 : Nat), (24 : Nat))]) ∈ lw_all := lw_g (lw_at lw_m6 159 rfl) rfl
theorem q1505 : (Jvm.Cond.methodLink "TrailMarkersLaw" (158 : Nat) ({ cls := "TrailMarkersLaw", name := "mend", desc := "(LTrailMarkers;I[J)I" } : Jvm.MethodName)) ∈ lw_all := lw_g (lw_at lw_m6 168 rfl) rfl
theorem q1506 : (Jvm.Cond.static ({ cls := "TrailMarkersLaw", name := "mend", desc := "(LTrailMarkers;I[J)I" } : Jvm.MethodName)) ∈ lw_all := lw_g (lw_at lw_m6 169 rfl) rfl
theorem q1507 : (Jvm.Cond.codeWith ({ cls := "TrailMarkersLaw", name := "mend", desc := "(LTrailMarkers;I[J)I" } : Jvm.MethodName) method_9_code (4 : Nat) (Option.some Jvm.ClassFile.FieldType.int) [((0 : Nat), (9 : Nat), (12 : Nat), (22 : Nat)), ((0 : Nat), (9 : Nat), (15 : Nat), (24 : Nat))]) ∈ lw_all := lw_g (lw_at lw_m6 170 rfl) rfl
theorem q1512 : (Jvm.Cond.methodLink "TrailMarkersLaw" (161 : Nat) ({ cls := "TrailMarkersLaw", name := "setBlock", desc := "(LTrailMarkers;IIZ[J)I" } : Jvm.MethodName)) ∈ lw_all := lw_g (lw_at lw_m6 175 rfl) rfl
theorem q1513 : (Jvm.Cond.static ({ cls := "TrailMarkersLaw", name := "setBlock", desc := "(LTrailMarkers;IIZ[J)I" } : Jvm.MethodName)) ∈ lw_all := lw_g (lw_at lw_m6 176 rfl) rfl
theorem q1514 : (Jvm.Cond.codeWith ({ cls := "TrailMarkersLaw", name := "setBlock", desc := "(LTrailMarkers;IIZ[J)I" } : Jvm.MethodName) method_10_code (6 : Nat) (Option.some Jvm.ClassFile.FieldType.int) [((0 : Nat), (12 : Nat), (15 : Nat), (13 : Nat)), ((0 : Nat), (12 : Nat), (19 : Nat), (24 : Nat))]) ∈ lw_all := lw_g (lw_at lw_m6 177 rfl) rfl
theorem q1523 : (Jvm.Cond.methodLink "TrailMarkersLaw" (165 : Nat) ({ cls := "TrailMarkersLaw", name := "set", desc := "(LTrailMarkers;II[J)I" } : Jvm.MethodName)) ∈ lw_all := lw_g (lw_at lw_m6 186 rfl) rfl
theorem q1524 : (Jvm.Cond.static ({ cls := "TrailMarkersLaw", name := "set", desc := "(LTrailMarkers;II[J)I" } : Jvm.MethodName)) ∈ lw_all := lw_g (lw_at lw_m6 187 rfl) rfl
theorem q1525 : (Jvm.Cond.codeWith ({ cls := "TrailMarkersLaw", name := "set", desc := "(LTrailMarkers;II[J)I" } : Jvm.MethodName) method_11_code (5 : Nat) (Option.some Jvm.ClassFile.FieldType.int) [((0 : Nat), (10 : Nat), (13 : Nat), (13 : Nat))]) ∈ lw_all := lw_g (lw_at lw_m6 188 rfl) rfl
theorem q1536 : (Jvm.Cond.methodLink "TrailMarkersLaw" (168 : Nat) ({ cls := "TrailMarkersLaw", name := "undo", desc := "(LTrailMarkers;[J)I" } : Jvm.MethodName)) ∈ lw_all := lw_g (lw_at lw_m6 199 rfl) rfl
theorem q1537 : (Jvm.Cond.static ({ cls := "TrailMarkersLaw", name := "undo", desc := "(LTrailMarkers;[J)I" } : Jvm.MethodName)) ∈ lw_all := lw_g (lw_at lw_m6 200 rfl) rfl
theorem q1538 : (Jvm.Cond.codeWith ({ cls := "TrailMarkersLaw", name := "undo", desc := "(LTrailMarkers;[J)I" } : Jvm.MethodName) method_12_code (3 : Nat) (Option.some Jvm.ClassFile.FieldType.int) [((0 : Nat), (8 : Nat), (11 : Nat), (24 : Nat))]) ∈ lw_all := lw_g (lw_at lw_m6 201 rfl) rfl
theorem q1558 : (Jvm.Cond.methodLink "TrailMarkersLaw" (172 : Nat) ({ cls := "TrailMarkersLaw", name := "save", desc := "(LTrailMarkers;I[J)I" } : Jvm.MethodName)) ∈ lw_all := lw_g (lw_at lw_m6 221 rfl) rfl
theorem q1559 : (Jvm.Cond.static ({ cls := "TrailMarkersLaw", name := "save", desc := "(LTrailMarkers;I[J)I" } : Jvm.MethodName)) ∈ lw_all := lw_g (lw_at lw_m6 222 rfl) rfl
theorem q1560 : (Jvm.Cond.codeWith ({ cls := "TrailMarkersLaw", name := "save", desc := "(LTrailMarkers;I[J)I" } : Jvm.MethodName) method_13_code (4 : Nat) (Option.some Jvm.ClassFile.FieldType.int) [((0 : Nat), (9 : Nat), (12 : Nat), (13 : Nat))]) ∈ lw_all := lw_g (lw_at lw_m6 223 rfl) rfl
theorem q1565 : (Jvm.Cond.methodLink "TrailMarkersLaw" (175 : Nat) ({ cls := "TrailMarkersLaw", name := "restore", desc := "(LTrailMarkers;I[J)I" } : Jvm.MethodName)) ∈ lw_all := lw_g (lw_at lw_m6 228 rfl) rfl
theorem q1566 : (Jvm.Cond.static ({ cls := "TrailMarkersLaw", name := "restore", desc := "(LTrailMarkers;I[J)I" } : Jvm.MethodName)) ∈ lw_all := lw_g (lw_at lw_m6 229 rfl) rfl
theorem q1567 : (Jvm.Cond.codeWith ({ cls := "TrailMarkersLaw", name := "restore", desc := "(LTrailMarkers;I[J)I" } : Jvm.MethodName) method_14_code (4 : Nat) (Option.some Jvm.ClassFile.FieldType.int) [((0 : Nat), (9 : Nat), (12 : Nat), (13 : Nat)), ((0 : Nat), (9 : Nat), (15 : Nat), (24 : Nat))]) ∈ lw_all := lw_g (lw_at lw_m6 230 rfl) rfl
theorem q1572 : (Jvm.Cond.methodLink "TrailMarkersLaw" (178 : Nat) ({ cls := "TrailMarkersLaw", name := "count", desc := "(LTrailMarkers;I[J)I" } : Jvm.MethodName)) ∈ lw_all := lw_g (lw_at lw_m6 235 rfl) rfl
theorem q1573 : (Jvm.Cond.static ({ cls := "TrailMarkersLaw", name := "count", desc := "(LTrailMarkers;I[J)I" } : Jvm.MethodName)) ∈ lw_all := lw_g (lw_at lw_m6 236 rfl) rfl
theorem q1574 : (Jvm.Cond.codeWith ({ cls := "TrailMarkersLaw", name := "count", desc := "(LTrailMarkers;I[J)I" } : Jvm.MethodName) method_15_code (4 : Nat) (Option.some Jvm.ClassFile.FieldType.int) [((0 : Nat), (9 : Nat), (12 : Nat), (13 : Nat))]) ∈ lw_all := lw_g (lw_at lw_m6 237 rfl) rfl
theorem q1589 : (Jvm.Cond.methodLink "TrailMarkersLaw" (181 : Nat) ({ cls := "TrailMarkersLaw", name := "post", desc := "(LTrailMarkers;II[J)I" } : Jvm.MethodName)) ∈ lw_all := lw_g (lw_at lw_m7 12 rfl) rfl
theorem q1590 : (Jvm.Cond.static ({ cls := "TrailMarkersLaw", name := "post", desc := "(LTrailMarkers;II[J)I" } : Jvm.MethodName)) ∈ lw_all := lw_g (lw_at lw_m7 13 rfl) rfl
theorem q1591 : (Jvm.Cond.codeWith ({ cls := "TrailMarkersLaw", name := "post", desc := "(LTrailMarkers;II[J)I" } : Jvm.MethodName) method_16_code (5 : Nat) (Option.some Jvm.ClassFile.FieldType.int) [((0 : Nat), (10 : Nat), (13 : Nat), (22 : Nat)), ((0 : Nat), (10 : Nat), (17 : Nat), (13 : Nat))]) ∈ lw_all := lw_g (lw_at lw_m7 14 rfl) rfl
theorem q1607 : (Jvm.Cond.methodLink "TrailMarkersLaw" (184 : Nat) ({ cls := "TrailMarkersLaw", name := "at", desc := "(LTrailMarkers;II[J)I" } : Jvm.MethodName)) ∈ lw_all := lw_g (lw_at lw_m7 30 rfl) rfl
theorem q1608 : (Jvm.Cond.static ({ cls := "TrailMarkersLaw", name := "at", desc := "(LTrailMarkers;II[J)I" } : Jvm.MethodName)) ∈ lw_all := lw_g (lw_at lw_m7 31 rfl) rfl
theorem q1609 : (Jvm.Cond.codeWith ({ cls := "TrailMarkersLaw", name := "at", desc := "(LTrailMarkers;II[J)I" } : Jvm.MethodName) method_17_code (5 : Nat) (Option.some Jvm.ClassFile.FieldType.int) [((0 : Nat), (10 : Nat), (13 : Nat), (13 : Nat))]) ∈ lw_all := lw_g (lw_at lw_m7 32 rfl) rfl
theorem q1615 : (Jvm.Cond.methodLink "TrailMarkersLaw" (187 : Nat) ({ cls := "TrailMarkersLaw", name := "colour", desc := "(LTrailMarkers;II[J)I" } : Jvm.MethodName)) ∈ lw_all := lw_g (lw_at lw_m7 38 rfl) rfl
theorem q1616 : (Jvm.Cond.static ({ cls := "TrailMarkersLaw", name := "colour", desc := "(LTrailMarkers;II[J)I" } : Jvm.MethodName)) ∈ lw_all := lw_g (lw_at lw_m7 39 rfl) rfl
theorem q1617 : (Jvm.Cond.codeWith ({ cls := "TrailMarkersLaw", name := "colour", desc := "(LTrailMarkers;II[J)I" } : Jvm.MethodName) method_18_code (5 : Nat) (Option.some Jvm.ClassFile.FieldType.int) [((0 : Nat), (10 : Nat), (13 : Nat), (22 : Nat)), ((0 : Nat), (10 : Nat), (17 : Nat), (13 : Nat))]) ∈ lw_all := lw_g (lw_at lw_m7 40 rfl) rfl
theorem q1635 : (Jvm.Cond.methodLink "TrailMarkersLaw" (190 : Nat) ({ cls := "TrailMarkersLaw", name := "met", desc := "(LTrailMarkers;I[J)I" } : Jvm.MethodName)) ∈ lw_all := lw_g (lw_at lw_m7 58 rfl) rfl
theorem q1636 : (Jvm.Cond.static ({ cls := "TrailMarkersLaw", name := "met", desc := "(LTrailMarkers;I[J)I" } : Jvm.MethodName)) ∈ lw_all := lw_g (lw_at lw_m7 59 rfl) rfl
theorem q1637 : (Jvm.Cond.codeWith ({ cls := "TrailMarkersLaw", name := "met", desc := "(LTrailMarkers;I[J)I" } : Jvm.MethodName) method_19_code (4 : Nat) (Option.some Jvm.ClassFile.FieldType.int) [((0 : Nat), (8 : Nat), (11 : Nat), (22 : Nat))]) ∈ lw_all := lw_g (lw_at lw_m7 60 rfl) rfl
theorem q1642 : (Jvm.Cond.methodLink "TrailMarkersLaw" (193 : Nat) ({ cls := "TrailMarkersLaw", name := "route", desc := "(LTrailMarkers;II[J)I" } : Jvm.MethodName)) ∈ lw_all := lw_g (lw_at lw_m7 65 rfl) rfl
theorem q1643 : (Jvm.Cond.static ({ cls := "TrailMarkersLaw", name := "route", desc := "(LTrailMarkers;II[J)I" } : Jvm.MethodName)) ∈ lw_all := lw_g (lw_at lw_m7 66 rfl) rfl
theorem q1644 : (Jvm.Cond.codeWith ({ cls := "TrailMarkersLaw", name := "route", desc := "(LTrailMarkers;II[J)I" } : Jvm.MethodName) method_20_code (5 : Nat) (Option.some Jvm.ClassFile.FieldType.int) [((0 : Nat), (10 : Nat), (13 : Nat), (22 : Nat)), ((0 : Nat), (10 : Nat), (17 : Nat), (13 : Nat))]) ∈ lw_all := lw_g (lw_at lw_m7 67 rfl) rfl
theorem q1657 : (Jvm.Cond.methodLink "TrailMarkersLaw" (196 : Nat) ({ cls := "TrailMarkersLaw", name := "routePost", desc := "(LTrailMarkers;II[J)I" } : Jvm.MethodName)) ∈ lw_all := lw_g (lw_at lw_m7 80 rfl) rfl
theorem q1658 : (Jvm.Cond.static ({ cls := "TrailMarkersLaw", name := "routePost", desc := "(LTrailMarkers;II[J)I" } : Jvm.MethodName)) ∈ lw_all := lw_g (lw_at lw_m7 81 rfl) rfl
theorem q1659 : (Jvm.Cond.codeWith ({ cls := "TrailMarkersLaw", name := "routePost", desc := "(LTrailMarkers;II[J)I" } : Jvm.MethodName) method_21_code (5 : Nat) (Option.some Jvm.ClassFile.FieldType.int) [((0 : Nat), (10 : Nat), (13 : Nat), (22 : Nat))]) ∈ lw_all := lw_g (lw_at lw_m7 82 rfl) rfl
theorem q1664 : (Jvm.Cond.methodLink "TrailMarkersLaw" (199 : Nat) ({ cls := "TrailMarkersLaw", name := "routeCell", desc := "(LTrailMarkers;II[J)I" } : Jvm.MethodName)) ∈ lw_all := lw_g (lw_at lw_m7 87 rfl) rfl
theorem q1665 : (Jvm.Cond.static ({ cls := "TrailMarkersLaw", name := "routeCell", desc := "(LTrailMarkers;II[J)I" } : Jvm.MethodName)) ∈ lw_all := lw_g (lw_at lw_m7 88 rfl) rfl
theorem q1666 : (Jvm.Cond.codeWith ({ cls := "TrailMarkersLaw", name := "routeCell", desc := "(LTrailMarkers;II[J)I" } : Jvm.MethodName) method_22_code (5 : Nat) (Option.some Jvm.ClassFile.FieldType.int) [((0 : Nat), (10 : Nat), (13 : Nat), (22 : Nat))]) ∈ lw_all := lw_g (lw_at lw_m7 89 rfl) rfl
theorem q1671 : (Jvm.Cond.methodLink "TrailMarkersLaw" (202 : Nat) ({ cls := "TrailMarkersLaw", name := "inferred", desc := "(LTrailMarkers;II[J)I" } : Jvm.MethodName)) ∈ lw_all := lw_g (lw_at lw_m7 94 rfl) rfl
theorem q1672 : (Jvm.Cond.static ({ cls := "TrailMarkersLaw", name := "inferred", desc := "(LTrailMarkers;II[J)I" } : Jvm.MethodName)) ∈ lw_all := lw_g (lw_at lw_m7 95 rfl) rfl
theorem q1673 : (Jvm.Cond.codeWith ({ cls := "TrailMarkersLaw", name := "inferred", desc := "(LTrailMarkers;II[J)I" } : Jvm.MethodName) method_23_code (5 : Nat) (Option.some Jvm.ClassFile.FieldType.int) [((0 : Nat), (10 : Nat), (13 : Nat), (22 : Nat))]) ∈ lw_all := lw_g (lw_at lw_m7 96 rfl) rfl
theorem q1678 : (Jvm.Cond.methodLink "TrailMarkersLaw" (205 : Nat) ({ cls := "TrailMarkersLaw", name := "shared", desc := "(LTrailMarkers;II[J)I" } : Jvm.MethodName)) ∈ lw_all := lw_g (lw_at lw_m7 101 rfl) rfl
theorem q1679 : (Jvm.Cond.static ({ cls := "TrailMarkersLaw", name := "shared", desc := "(LTrailMarkers;II[J)I" } : Jvm.MethodName)) ∈ lw_all := lw_g (lw_at lw_m7 102 rfl) rfl
theorem q1680 : (Jvm.Cond.codeWith ({ cls := "TrailMarkersLaw", name := "shared", desc := "(LTrailMarkers;II[J)I" } : Jvm.MethodName) method_24_code (5 : Nat) (Option.some Jvm.ClassFile.FieldType.int) [((0 : Nat), (10 : Nat), (13 : Nat), (22 : Nat))]) ∈ lw_all := lw_g (lw_at lw_m7 103 rfl) rfl
theorem q2853 : (Jvm.Cond.methodLink "TrailMarkersLaw" (208 : Nat) ({ cls := "TrailMarkersLaw", name := "why", desc := "(LTrailMarkers;II[J)I" } : Jvm.MethodName)) ∈ lw_all := lw_g (lw_at lw_m12 76 rfl) rfl
theorem q2854 : (Jvm.Cond.static ({ cls := "TrailMarkersLaw", name := "why", desc := "(LTrailMarkers;II[J)I" } : Jvm.MethodName)) ∈ lw_all := lw_g (lw_at lw_m12 77 rfl) rfl
theorem q2855 : (Jvm.Cond.codeWith ({ cls := "TrailMarkersLaw", name := "why", desc := "(LTrailMarkers;II[J)I" } : Jvm.MethodName) method_25_code (5 : Nat) (Option.some Jvm.ClassFile.FieldType.int) [((0 : Nat), (10 : Nat), (13 : Nat), (22 : Nat)), ((0 : Nat), (10 : Nat), (17 : Nat), (13 : Nat))]) ∈ lw_all := lw_g (lw_at lw_m12 78 rfl) rfl
theorem q2863 : (Jvm.Cond.methodLink "TrailMarkersLaw" (211 : Nat) ({ cls := "TrailMarkersLaw", name := "ifOther", desc := "(LTrailMarkers;III[J)I" } : Jvm.MethodName)) ∈ lw_all := lw_g (lw_at lw_m12 86 rfl) rfl
theorem q2864 : (Jvm.Cond.static ({ cls := "TrailMarkersLaw", name := "ifOther", desc := "(LTrailMarkers;III[J)I" } : Jvm.MethodName)) ∈ lw_all := lw_g (lw_at lw_m12 87 rfl) rfl
theorem q2865 : (Jvm.Cond.codeWith ({ cls := "TrailMarkersLaw", name := "ifOther", desc := "(LTrailMarkers;III[J)I" } : Jvm.MethodName) method_26_code (6 : Nat) (Option.some Jvm.ClassFile.FieldType.int) [((0 : Nat), (12 : Nat), (15 : Nat), (22 : Nat)), ((0 : Nat), (12 : Nat), (19 : Nat), (13 : Nat))]) ∈ lw_all := lw_g (lw_at lw_m12 88 rfl) rfl
theorem q2879 : (Jvm.Cond.methodLink "TrailMarkersLaw" (215 : Nat) ({ cls := "TrailMarkersLaw", name := "ifSet", desc := "(LTrailMarkers;IIII[J)I" } : Jvm.MethodName)) ∈ lw_all := lw_g (lw_at lw_m12 102 rfl) rfl
theorem q2880 : (Jvm.Cond.static ({ cls := "TrailMarkersLaw", name := "ifSet", desc := "(LTrailMarkers;IIII[J)I" } : Jvm.MethodName)) ∈ lw_all := lw_g (lw_at lw_m12 103 rfl) rfl
theorem q2881 : (Jvm.Cond.codeWith ({ cls := "TrailMarkersLaw", name := "ifSet", desc := "(LTrailMarkers;IIII[J)I" } : Jvm.MethodName) method_27_code (7 : Nat) (Option.some Jvm.ClassFile.FieldType.int) [((0 : Nat), (14 : Nat), (17 : Nat), (22 : Nat)), ((0 : Nat), (14 : Nat), (21 : Nat), (13 : Nat))]) ∈ lw_all := lw_g (lw_at lw_m12 104 rfl) rfl
theorem q2886 : (Jvm.Cond.methodLink "TrailMarkersLaw" (218 : Nat) ({ cls := "TrailMarkersLaw", name := "bestMend", desc := "(LTrailMarkers;I[J)I" } : Jvm.MethodName)) ∈ lw_all := lw_g (lw_at lw_m12 109 rfl) rfl
theorem q2887 : (Jvm.Cond.static ({ cls := "TrailMarkersLaw", name := "bestMend", desc := "(LTrailMarkers;I[J)I" } : Jvm.MethodName)) ∈ lw_all := lw_g (lw_at lw_m12 110 rfl) rfl
theorem q2888 : (Jvm.Cond.codeWith ({ cls := "TrailMarkersLaw", name := "bestMend", desc := "(LTrailMarkers;I[J)I" } : Jvm.MethodName) method_28_code (4 : Nat) (Option.some Jvm.ClassFile.FieldType.int) [((0 : Nat), (9 : Nat), (12 : Nat), (22 : Nat))]) ∈ lw_all := lw_g (lw_at lw_m12 111 rfl) rfl
theorem q2897 : (Jvm.Cond.methodLink "TrailMarkersLaw" (221 : Nat) ({ cls := "TrailMarkersLaw", name := "worstLoss", desc := "(LTrailMarkers;I[J)I" } : Jvm.MethodName)) ∈ lw_all := lw_g (lw_at lw_m12 120 rfl) rfl
theorem q2898 : (Jvm.Cond.static ({ cls := "TrailMarkersLaw", name := "worstLoss", desc := "(LTrailMarkers;I[J)I" } : Jvm.MethodName)) ∈ lw_all := lw_g (lw_at lw_m12 121 rfl) rfl
theorem q2899 : (Jvm.Cond.codeWith ({ cls := "TrailMarkersLaw", name := "worstLoss", desc := "(LTrailMarkers;I[J)I" } : Jvm.MethodName) method_29_code (4 : Nat) (Option.some Jvm.ClassFile.FieldType.int) [((0 : Nat), (9 : Nat), (12 : Nat), (22 : Nat))]) ∈ lw_all := lw_g (lw_at lw_m12 122 rfl) rfl
theorem q2904 : (Jvm.Cond.methodLink "TrailMarkersLaw" (224 : Nat) ({ cls := "TrailMarkersLaw", name := "leastGap", desc := "(LTrailMarkers;I[J)I" } : Jvm.MethodName)) ∈ lw_all := lw_g (lw_at lw_m12 127 rfl) rfl
theorem q2905 : (Jvm.Cond.static ({ cls := "TrailMarkersLaw", name := "leastGap", desc := "(LTrailMarkers;I[J)I" } : Jvm.MethodName)) ∈ lw_all := lw_g (lw_at lw_m12 128 rfl) rfl
theorem q2906 : (Jvm.Cond.codeWith ({ cls := "TrailMarkersLaw", name := "leastGap", desc := "(LTrailMarkers;I[J)I" } : Jvm.MethodName) method_30_code (4 : Nat) (Option.some Jvm.ClassFile.FieldType.int) [((0 : Nat), (9 : Nat), (12 : Nat), (22 : Nat))]) ∈ lw_all := lw_g (lw_at lw_m12 129 rfl) rfl
theorem q2911 : (Jvm.Cond.methodLink "TrailMarkersLaw" (231 : Nat) ({ cls := "TrailMarkersLaw", name := "meanBits", desc := "(LTrailMarkers;I[J)I" } : Jvm.MethodName)) ∈ lw_all := lw_g (lw_at lw_m12 134 rfl) rfl
theorem q2912 : (Jvm.Cond.static ({ cls := "TrailMarkersLaw", name := "meanBits", desc := "(LTrailMarkers;I[J)I" } : Jvm.MethodName)) ∈ lw_all := lw_g (lw_at lw_m12 135 rfl) rfl
theorem q2913 : (Jvm.Cond.codeWith ({ cls := "TrailMarkersLaw", name := "meanBits", desc := "(LTrailMarkers;I[J)I" } : Jvm.MethodName) method_31_code (4 : Nat) (Option.some Jvm.ClassFile.FieldType.int) [((0 : Nat), (9 : Nat), (12 : Nat), (22 : Nat))]) ∈ lw_all := lw_g (lw_at lw_m12 136 rfl) rfl
theorem q2929 : (Jvm.Cond.methodLink "TrailMarkersLaw" (239 : Nat) ({ cls := "TrailMarkersLaw", name := "writeRoute", desc := "(LTrailMarkers;I[J)I" } : Jvm.MethodName)) ∈ lw_all := lw_g (lw_at lw_m12 152 rfl) rfl
theorem q2930 : (Jvm.Cond.static ({ cls := "TrailMarkersLaw", name := "writeRoute", desc := "(LTrailMarkers;I[J)I" } : Jvm.MethodName)) ∈ lw_all := lw_g (lw_at lw_m12 153 rfl) rfl
theorem q2931 : (Jvm.Cond.codeWith ({ cls := "TrailMarkersLaw", name := "writeRoute", desc := "(LTrailMarkers;I[J)I" } : Jvm.MethodName) method_32_code (4 : Nat) (Option.some Jvm.ClassFile.FieldType.int) [((0 : Nat), (9 : Nat), (12 : Nat), (22 : Nat))]) ∈ lw_all := lw_g (lw_at lw_m12 154 rfl) rfl
theorem q3013 : (Jvm.Cond.methodLink "TrailMarkersLaw" (242 : Nat) ({ cls := "TrailMarkersLaw", name := "writeRow", desc := "(LTrailMarkers;I[J)I" } : Jvm.MethodName)) ∈ lw_all := lw_g (lw_at lw_m12 236 rfl) rfl
theorem q3014 : (Jvm.Cond.static ({ cls := "TrailMarkersLaw", name := "writeRow", desc := "(LTrailMarkers;I[J)I" } : Jvm.MethodName)) ∈ lw_all := lw_g (lw_at lw_m12 237 rfl) rfl
theorem q3015 : (Jvm.Cond.codeWith ({ cls := "TrailMarkersLaw", name := "writeRow", desc := "(LTrailMarkers;I[J)I" } : Jvm.MethodName) method_33_code (4 : Nat) (Option.some Jvm.ClassFile.FieldType.int) [((0 : Nat), (9 : Nat), (12 : Nat), (13 : Nat))]) ∈ lw_all := lw_g (lw_at lw_m12 238 rfl) rfl
theorem q3021 : (Jvm.Cond.classLink "TrailMarkersLaw" (116 : Nat) "TrailMarkersModel") ∈ lw_all := lw_g (lw_at lw_m13 4 rfl) rfl
theorem q3022 : (Jvm.Cond.instantiable "TrailMarkersModel" (53 : Nat)) ∈ lw_all := lw_g (lw_at lw_m13 5 rfl) rfl
theorem q3023 : (Jvm.Cond.methodLink "TrailMarkersLaw" (118 : Nat) ({ cls := "TrailMarkersModel", name := "<init>", desc := "()V" } : Jvm.MethodName)) ∈ lw_all := lw_g (lw_at lw_m13 6 rfl) rfl
theorem q3024 : (Jvm.Cond.instanceMethod ({ cls := "TrailMarkersModel", name := "<init>", desc := "()V" } : Jvm.MethodName)) ∈ lw_all := lw_g (lw_at lw_m13 7 rfl) rfl
theorem q3025 : (Jvm.Cond.code ({ cls := "TrailMarkersModel", name := "<init>", desc := "()V" } : Jvm.MethodName) prog_13_method_1_code (1 : Nat) (Option.none : Option Jvm.ClassFile.FieldType)) ∈ lw_all := lw_g (lw_at lw_m13 8 rfl) rfl
theorem q3358 : (Jvm.Cond.methodLink "TrailMarkersLaw" (130 : Nat) ({ cls := "TrailMarkersModel", name := "thrown", desc := "()I" } : Jvm.MethodName)) ∈ lw_all := lw_g (lw_at lw_m14 101 rfl) rfl
theorem q3359 : (Jvm.Cond.instanceMethod ({ cls := "TrailMarkersModel", name := "thrown", desc := "()I" } : Jvm.MethodName)) ∈ lw_all := lw_g (lw_at lw_m14 102 rfl) rfl
theorem q3360 : (Jvm.Cond.selects "TrailMarkersModel" ({ cls := "TrailMarkersModel", name := "thrown", desc := "()I" } : Jvm.MethodName) ({ cls := "TrailMarkersModel", name := "thrown", desc := "()I" } : Jvm.MethodName)) ∈ lw_all := lw_g (lw_at lw_m14 103 rfl) rfl
theorem q3361 : (Jvm.Cond.code ({ cls := "TrailMarkersModel", name := "thrown", desc := "()I" } : Jvm.MethodName) prog_13_method_3_code (1 : Nat) (Option.some Jvm.ClassFile.FieldType.int)) ∈ lw_all := lw_g (lw_at lw_m14 104 rfl) rfl
theorem q3362 : (Jvm.Cond.methodLink "TrailMarkersLaw" (123 : Nat) ({ cls := "TrailMarkersModel", name := "append", desc := "(IIIII)I" } : Jvm.MethodName)) ∈ lw_all := lw_g (lw_at lw_m14 105 rfl) rfl
theorem q3363 : (Jvm.Cond.instanceMethod ({ cls := "TrailMarkersModel", name := "append", desc := "(IIIII)I" } : Jvm.MethodName)) ∈ lw_all := lw_g (lw_at lw_m14 106 rfl) rfl
theorem q3364 : (Jvm.Cond.selects "TrailMarkersModel" ({ cls := "TrailMarkersModel", name := "append", desc := "(IIIII)I" } : Jvm.MethodName) ({ cls := "TrailMarkersModel", name := "append", desc := "(IIIII)I" } : Jvm.MethodName)) ∈ lw_all := lw_g (lw_at lw_m14 107 rfl) rfl
theorem q3365 : (Jvm.Cond.code ({ cls := "TrailMarkersModel", name := "append", desc := "(IIIII)I" } : Jvm.MethodName) prog_13_method_35_code (6 : Nat) (Option.some Jvm.ClassFile.FieldType.int)) ∈ lw_all := lw_g (lw_at lw_m14 108 rfl) rfl
theorem q3370 : (Jvm.Cond.methodLink "TrailMarkersLaw" (129 : Nat) ({ cls := "TrailMarkersModel", name := "truncate", desc := "(I)I" } : Jvm.MethodName)) ∈ lw_all := lw_g (lw_at lw_m14 113 rfl) rfl
theorem q3371 : (Jvm.Cond.instanceMethod ({ cls := "TrailMarkersModel", name := "truncate", desc := "(I)I" } : Jvm.MethodName)) ∈ lw_all := lw_g (lw_at lw_m14 114 rfl) rfl
theorem q3372 : (Jvm.Cond.selects "TrailMarkersModel" ({ cls := "TrailMarkersModel", name := "truncate", desc := "(I)I" } : Jvm.MethodName) ({ cls := "TrailMarkersModel", name := "truncate", desc := "(I)I" } : Jvm.MethodName)) ∈ lw_all := lw_g (lw_at lw_m14 115 rfl) rfl
theorem q3373 : (Jvm.Cond.code ({ cls := "TrailMarkersModel", name := "truncate", desc := "(I)I" } : Jvm.MethodName) prog_13_method_37_code (2 : Nat) (Option.some Jvm.ClassFile.FieldType.int)) ∈ lw_all := lw_g (lw_at lw_m14 116 rfl) rfl
theorem q3378 : (Jvm.Cond.methodLink "TrailMarkersLaw" (136 : Nat) ({ cls := "TrailMarkersModel", name := "load", desc := "()I" } : Jvm.MethodName)) ∈ lw_all := lw_g (lw_at lw_m14 121 rfl) rfl
theorem q3379 : (Jvm.Cond.methodLink "TrailMarkersLaw" (140 : Nat) ({ cls := "TrailMarkersModel", name := "play", desc := "()I" } : Jvm.MethodName)) ∈ lw_all := lw_g (lw_at lw_m14 122 rfl) rfl
theorem q3380 : (Jvm.Cond.instanceMethod ({ cls := "TrailMarkersModel", name := "play", desc := "()I" } : Jvm.MethodName)) ∈ lw_all := lw_g (lw_at lw_m14 123 rfl) rfl
theorem q3381 : (Jvm.Cond.selects "TrailMarkersModel" ({ cls := "TrailMarkersModel", name := "play", desc := "()I" } : Jvm.MethodName) ({ cls := "TrailMarkersModel", name := "play", desc := "()I" } : Jvm.MethodName)) ∈ lw_all := lw_g (lw_at lw_m14 124 rfl) rfl
theorem q3382 : (Jvm.Cond.code ({ cls := "TrailMarkersModel", name := "play", desc := "()I" } : Jvm.MethodName) prog_13_method_65_code (1 : Nat) (Option.some Jvm.ClassFile.FieldType.int)) ∈ lw_all := lw_g (lw_at lw_m14 125 rfl) rfl
theorem q3383 : (Jvm.Cond.methodLink "TrailMarkersLaw" (143 : Nat) ({ cls := "TrailMarkersModel", name := "error", desc := "(I)I" } : Jvm.MethodName)) ∈ lw_all := lw_g (lw_at lw_m14 126 rfl) rfl
theorem q3384 : (Jvm.Cond.instanceMethod ({ cls := "TrailMarkersModel", name := "error", desc := "(I)I" } : Jvm.MethodName)) ∈ lw_all := lw_g (lw_at lw_m14 127 rfl) rfl
theorem q3385 : (Jvm.Cond.selects "TrailMarkersModel" ({ cls := "TrailMarkersModel", name := "error", desc := "(I)I" } : Jvm.MethodName) ({ cls := "TrailMarkersModel", name := "error", desc := "(I)I" } : Jvm.MethodName)) ∈ lw_all := lw_g (lw_at lw_m14 128 rfl) rfl
theorem q3386 : (Jvm.Cond.code ({ cls := "TrailMarkersModel", name := "error", desc := "(I)I" } : Jvm.MethodName) prog_13_method_66_code (2 : Nat) (Option.some Jvm.ClassFile.FieldType.int)) ∈ lw_all := lw_g (lw_at lw_m14 129 rfl) rfl
theorem q3387 : (Jvm.Cond.methodLink "TrailMarkersLaw" (147 : Nat) ({ cls := "TrailMarkersModel", name := "addPost", desc := "(IIII)I" } : Jvm.MethodName)) ∈ lw_all := lw_g (lw_at lw_m14 130 rfl) rfl
theorem q3388 : (Jvm.Cond.instanceMethod ({ cls := "TrailMarkersModel", name := "addPost", desc := "(IIII)I" } : Jvm.MethodName)) ∈ lw_all := lw_g (lw_at lw_m14 131 rfl) rfl
theorem q3389 : (Jvm.Cond.selects "TrailMarkersModel" ({ cls := "TrailMarkersModel", name := "addPost", desc := "(IIII)I" } : Jvm.MethodName) ({ cls := "TrailMarkersModel", name := "addPost", desc := "(IIII)I" } : Jvm.MethodName)) ∈ lw_all := lw_g (lw_at lw_m14 132 rfl) rfl
theorem q3390 : (Jvm.Cond.code ({ cls := "TrailMarkersModel", name := "addPost", desc := "(IIII)I" } : Jvm.MethodName) prog_13_method_67_code (6 : Nat) (Option.some Jvm.ClassFile.FieldType.int)) ∈ lw_all := lw_g (lw_at lw_m14 133 rfl) rfl
theorem q3394 : (Jvm.Cond.methodLink "TrailMarkersLaw" (150 : Nat) ({ cls := "TrailMarkersModel", name := "dropPost", desc := "(I)I" } : Jvm.MethodName)) ∈ lw_all := lw_g (lw_at lw_m14 137 rfl) rfl
theorem q3395 : (Jvm.Cond.instanceMethod ({ cls := "TrailMarkersModel", name := "dropPost", desc := "(I)I" } : Jvm.MethodName)) ∈ lw_all := lw_g (lw_at lw_m14 138 rfl) rfl
theorem q3396 : (Jvm.Cond.selects "TrailMarkersModel" ({ cls := "TrailMarkersModel", name := "dropPost", desc := "(I)I" } : Jvm.MethodName) ({ cls := "TrailMarkersModel", name := "dropPost", desc := "(I)I" } : Jvm.MethodName)) ∈ lw_all := lw_g (lw_at lw_m14 139 rfl) rfl
theorem q3397 : (Jvm.Cond.code ({ cls := "TrailMarkersModel", name := "dropPost", desc := "(I)I" } : Jvm.MethodName) prog_13_method_68_code (3 : Nat) (Option.some Jvm.ClassFile.FieldType.int)) ∈ lw_all := lw_g (lw_at lw_m14 140 rfl) rfl
theorem q3402 : (Jvm.Cond.methodLink "TrailMarkersLaw" (154 : Nat) ({ cls := "TrailMarkersModel", name := "turn", desc := "(II)I" } : Jvm.MethodName)) ∈ lw_all := lw_g (lw_at lw_m14 145 rfl) rfl
theorem q3403 : (Jvm.Cond.instanceMethod ({ cls := "TrailMarkersModel", name := "turn", desc := "(II)I" } : Jvm.MethodName)) ∈ lw_all := lw_g (lw_at lw_m14 146 rfl) rfl
theorem q3404 : (Jvm.Cond.selects "TrailMarkersModel" ({ cls := "TrailMarkersModel", name := "turn", desc := "(II)I" } : Jvm.MethodName) ({ cls := "TrailMarkersModel", name := "turn", desc := "(II)I" } : Jvm.MethodName)) ∈ lw_all := lw_g (lw_at lw_m14 147 rfl) rfl
theorem q3405 : (Jvm.Cond.code ({ cls := "TrailMarkersModel", name := "turn", desc := "(II)I" } : Jvm.MethodName) prog_13_method_69_code (4 : Nat) (Option.some Jvm.ClassFile.FieldType.int)) ∈ lw_all := lw_g (lw_at lw_m14 148 rfl) rfl
theorem q3406 : (Jvm.Cond.methodLink "TrailMarkersLaw" (157 : Nat) ({ cls := "TrailMarkersModel", name := "lose", desc := "(I)I" } : Jvm.MethodName)) ∈ lw_all := lw_g (lw_at lw_m14 149 rfl) rfl
theorem q3407 : (Jvm.Cond.instanceMethod ({ cls := "TrailMarkersModel", name := "lose", desc := "(I)I" } : Jvm.MethodName)) ∈ lw_all := lw_g (lw_at lw_m14 150 rfl) rfl
theorem q3408 : (Jvm.Cond.selects "TrailMarkersModel" ({ cls := "TrailMarkersModel", name := "lose", desc := "(I)I" } : Jvm.MethodName) ({ cls := "TrailMarkersModel", name := "lose", desc := "(I)I" } : Jvm.MethodName)) ∈ lw_all := lw_g (lw_at lw_m14 151 rfl) rfl
theorem q3409 : (Jvm.Cond.code ({ cls := "TrailMarkersModel", name := "lose", desc := "(I)I" } : Jvm.MethodName) prog_13_method_71_code (2 : Nat) (Option.some Jvm.ClassFile.FieldType.int)) ∈ lw_all := lw_g (lw_at lw_m14 152 rfl) rfl
theorem q3422 : (Jvm.Cond.methodLink "TrailMarkersLaw" (160 : Nat) ({ cls := "TrailMarkersModel", name := "mend", desc := "(I)I" } : Jvm.MethodName)) ∈ lw_all := lw_g (lw_at lw_m14 165 rfl) rfl
theorem q3423 : (Jvm.Cond.instanceMethod ({ cls := "TrailMarkersModel", name := "mend", desc := "(I)I" } : Jvm.MethodName)) ∈ lw_all := lw_g (lw_at lw_m14 166 rfl) rfl
theorem q3424 : (Jvm.Cond.selects "TrailMarkersModel" ({ cls := "TrailMarkersModel", name := "mend", desc := "(I)I" } : Jvm.MethodName) ({ cls := "TrailMarkersModel", name := "mend", desc := "(I)I" } : Jvm.MethodName)) ∈ lw_all := lw_g (lw_at lw_m14 167 rfl) rfl
theorem q3425 : (Jvm.Cond.code ({ cls := "TrailMarkersModel", name := "mend", desc := "(I)I" } : Jvm.MethodName) prog_13_method_72_code (2 : Nat) (Option.some Jvm.ClassFile.FieldType.int)) ∈ lw_all := lw_g (lw_at lw_m14 168 rfl) rfl
theorem q3426 : (Jvm.Cond.methodLink "TrailMarkersLaw" (164 : Nat) ({ cls := "TrailMarkersModel", name := "setBlock", desc := "(IIZ)I" } : Jvm.MethodName)) ∈ lw_all := lw_g (lw_at lw_m14 169 rfl) rfl
theorem q3427 : (Jvm.Cond.instanceMethod ({ cls := "TrailMarkersModel", name := "setBlock", desc := "(IIZ)I" } : Jvm.MethodName)) ∈ lw_all := lw_g (lw_at lw_m14 170 rfl) rfl
theorem q3428 : (Jvm.Cond.selects "TrailMarkersModel" ({ cls := "TrailMarkersModel", name := "setBlock", desc := "(IIZ)I" } : Jvm.MethodName) ({ cls := "TrailMarkersModel", name := "setBlock", desc := "(IIZ)I" } : Jvm.MethodName)) ∈ lw_all := lw_g (lw_at lw_m14 171 rfl) rfl
theorem q3429 : (Jvm.Cond.code ({ cls := "TrailMarkersModel", name := "setBlock", desc := "(IIZ)I" } : Jvm.MethodName) prog_13_method_73_code (5 : Nat) (Option.some Jvm.ClassFile.FieldType.int)) ∈ lw_all := lw_g (lw_at lw_m14 172 rfl) rfl
theorem q3430 : (Jvm.Cond.methodLink "TrailMarkersLaw" (167 : Nat) ({ cls := "TrailMarkersModel", name := "set", desc := "(II)I" } : Jvm.MethodName)) ∈ lw_all := lw_g (lw_at lw_m14 173 rfl) rfl
theorem q3431 : (Jvm.Cond.instanceMethod ({ cls := "TrailMarkersModel", name := "set", desc := "(II)I" } : Jvm.MethodName)) ∈ lw_all := lw_g (lw_at lw_m14 174 rfl) rfl
theorem q3432 : (Jvm.Cond.selects "TrailMarkersModel" ({ cls := "TrailMarkersModel", name := "set", desc := "(II)I" } : Jvm.MethodName) ({ cls := "TrailMarkersModel", name := "set", desc := "(II)I" } : Jvm.MethodName)) ∈ lw_all := lw_g (lw_at lw_m14 175 rfl) rfl
theorem q3433 : (Jvm.Cond.code ({ cls := "TrailMarkersModel", name := "set", desc := "(II)I" } : Jvm.MethodName) prog_13_method_75_code (4 : Nat) (Option.some Jvm.ClassFile.FieldType.int)) ∈ lw_all := lw_g (lw_at lw_m14 176 rfl) rfl
theorem q3437 : (Jvm.Cond.methodLink "TrailMarkersLaw" (171 : Nat) ({ cls := "TrailMarkersModel", name := "undo", desc := "()I" } : Jvm.MethodName)) ∈ lw_all := lw_g (lw_at lw_m14 180 rfl) rfl
theorem q3438 : (Jvm.Cond.instanceMethod ({ cls := "TrailMarkersModel", name := "undo", desc := "()I" } : Jvm.MethodName)) ∈ lw_all := lw_g (lw_at lw_m14 181 rfl) rfl
theorem q3439 : (Jvm.Cond.selects "TrailMarkersModel" ({ cls := "TrailMarkersModel", name := "undo", desc := "()I" } : Jvm.MethodName) ({ cls := "TrailMarkersModel", name := "undo", desc := "()I" } : Jvm.MethodName)) ∈ lw_all := lw_g (lw_at lw_m14 182 rfl) rfl
theorem q3440 : (Jvm.Cond.code ({ cls := "TrailMarkersModel", name := "undo", desc := "()I" } : Jvm.MethodName) prog_13_method_76_code (1 : Nat) (Option.some Jvm.ClassFile.FieldType.int)) ∈ lw_all := lw_g (lw_at lw_m14 183 rfl) rfl
theorem q3441 : (Jvm.Cond.methodLink "TrailMarkersLaw" (174 : Nat) ({ cls := "TrailMarkersModel", name := "save", desc := "(I)I" } : Jvm.MethodName)) ∈ lw_all := lw_g (lw_at lw_m14 184 rfl) rfl
theorem q3442 : (Jvm.Cond.instanceMethod ({ cls := "TrailMarkersModel", name := "save", desc := "(I)I" } : Jvm.MethodName)) ∈ lw_all := lw_g (lw_at lw_m14 185 rfl) rfl
theorem q3443 : (Jvm.Cond.selects "TrailMarkersModel" ({ cls := "TrailMarkersModel", name := "save", desc := "(I)I" } : Jvm.MethodName) ({ cls := "TrailMarkersModel", name := "save", desc := "(I)I" } : Jvm.MethodName)) ∈ lw_all := lw_g (lw_at lw_m14 186 rfl) rfl
theorem q3444 : (Jvm.Cond.code ({ cls := "TrailMarkersModel", name := "save", desc := "(I)I" } : Jvm.MethodName) prog_13_method_77_code (2 : Nat) (Option.some Jvm.ClassFile.FieldType.int)) ∈ lw_all := lw_g (lw_at lw_m14 187 rfl) rfl
theorem q3445 : (Jvm.Cond.methodLink "TrailMarkersLaw" (177 : Nat) ({ cls := "TrailMarkersModel", name := "restore", desc := "(I)I" } : Jvm.MethodName)) ∈ lw_all := lw_g (lw_at lw_m14 188 rfl) rfl
theorem q3446 : (Jvm.Cond.instanceMethod ({ cls := "TrailMarkersModel", name := "restore", desc := "(I)I" } : Jvm.MethodName)) ∈ lw_all := lw_g (lw_at lw_m14 189 rfl) rfl
theorem q3447 : (Jvm.Cond.selects "TrailMarkersModel" ({ cls := "TrailMarkersModel", name := "restore", desc := "(I)I" } : Jvm.MethodName) ({ cls := "TrailMarkersModel", name := "restore", desc := "(I)I" } : Jvm.MethodName)) ∈ lw_all := lw_g (lw_at lw_m14 190 rfl) rfl
theorem q3448 : (Jvm.Cond.code ({ cls := "TrailMarkersModel", name := "restore", desc := "(I)I" } : Jvm.MethodName) prog_13_method_78_code (3 : Nat) (Option.some Jvm.ClassFile.FieldType.int)) ∈ lw_all := lw_g (lw_at lw_m14 191 rfl) rfl
theorem q3449 : (Jvm.Cond.methodLink "TrailMarkersLaw" (180 : Nat) ({ cls := "TrailMarkersModel", name := "count", desc := "(I)I" } : Jvm.MethodName)) ∈ lw_all := lw_g (lw_at lw_m14 192 rfl) rfl
theorem q3450 : (Jvm.Cond.instanceMethod ({ cls := "TrailMarkersModel", name := "count", desc := "(I)I" } : Jvm.MethodName)) ∈ lw_all := lw_g (lw_at lw_m14 193 rfl) rfl
theorem q3451 : (Jvm.Cond.selects "TrailMarkersModel" ({ cls := "TrailMarkersModel", name := "count", desc := "(I)I" } : Jvm.MethodName) ({ cls := "TrailMarkersModel", name := "count", desc := "(I)I" } : Jvm.MethodName)) ∈ lw_all := lw_g (lw_at lw_m14 194 rfl) rfl
theorem q3452 : (Jvm.Cond.code ({ cls := "TrailMarkersModel", name := "count", desc := "(I)I" } : Jvm.MethodName) prog_13_method_80_code (2 : Nat) (Option.some Jvm.ClassFile.FieldType.int)) ∈ lw_all := lw_g (lw_at lw_m14 195 rfl) rfl
theorem q3510 : (Jvm.Cond.methodLink "TrailMarkersLaw" (183 : Nat) ({ cls := "TrailMarkersModel", name := "post", desc := "(II)I" } : Jvm.MethodName)) ∈ lw_all := lw_g (lw_at lw_m15 13 rfl) rfl
theorem q3511 : (Jvm.Cond.instanceMethod ({ cls := "TrailMarkersModel", name := "post", desc := "(II)I" } : Jvm.MethodName)) ∈ lw_all := lw_g (lw_at lw_m15 14 rfl) rfl
theorem q3512 : (Jvm.Cond.selects "TrailMarkersModel" ({ cls := "TrailMarkersModel", name := "post", desc := "(II)I" } : Jvm.MethodName) ({ cls := "TrailMarkersModel", name := "post", desc := "(II)I" } : Jvm.MethodName)) ∈ lw_all := lw_g (lw_at lw_m15 15 rfl) rfl
theorem q3513 : (Jvm.Cond.code ({ cls := "TrailMarkersModel", name := "post", desc := "(II)I" } : Jvm.MethodName) prog_13_method_83_code (3 : Nat) (Option.some Jvm.ClassFile.FieldType.int)) ∈ lw_all := lw_g (lw_at lw_m15 16 rfl) rfl
theorem q3522 : (Jvm.Cond.methodLink "TrailMarkersLaw" (186 : Nat) ({ cls := "TrailMarkersModel", name := "at", desc := "(II)I" } : Jvm.MethodName)) ∈ lw_all := lw_g (lw_at lw_m15 25 rfl) rfl
theorem q3523 : (Jvm.Cond.instanceMethod ({ cls := "TrailMarkersModel", name := "at", desc := "(II)I" } : Jvm.MethodName)) ∈ lw_all := lw_g (lw_at lw_m15 26 rfl) rfl
theorem q3524 : (Jvm.Cond.selects "TrailMarkersModel" ({ cls := "TrailMarkersModel", name := "at", desc := "(II)I" } : Jvm.MethodName) ({ cls := "TrailMarkersModel", name := "at", desc := "(II)I" } : Jvm.MethodName)) ∈ lw_all := lw_g (lw_at lw_m15 27 rfl) rfl
theorem q3525 : (Jvm.Cond.code ({ cls := "TrailMarkersModel", name := "at", desc := "(II)I" } : Jvm.MethodName) prog_13_method_84_code (3 : Nat) (Option.some Jvm.ClassFile.FieldType.int)) ∈ lw_all := lw_g (lw_at lw_m15 28 rfl) rfl
theorem q3526 : (Jvm.Cond.methodLink "TrailMarkersLaw" (189 : Nat) ({ cls := "TrailMarkersModel", name := "colour", desc := "(II)I" } : Jvm.MethodName)) ∈ lw_all := lw_g (lw_at lw_m15 29 rfl) rfl
theorem q3527 : (Jvm.Cond.instanceMethod ({ cls := "TrailMarkersModel", name := "colour", desc := "(II)I" } : Jvm.MethodName)) ∈ lw_all := lw_g (lw_at lw_m15 30 rfl) rfl
theorem q3528 : (Jvm.Cond.selects "TrailMarkersModel" ({ cls := "TrailMarkersModel", name := "colour", desc := "(II)I" } : Jvm.MethodName) ({ cls := "TrailMarkersModel", name := "colour", desc := "(II)I" } : Jvm.MethodName)) ∈ lw_all := lw_g (lw_at lw_m15 31 rfl) rfl
theorem q3529 : (Jvm.Cond.code ({ cls := "TrailMarkersModel", name := "colour", desc := "(II)I" } : Jvm.MethodName) prog_13_method_86_code (3 : Nat) (Option.some Jvm.ClassFile.FieldType.int)) ∈ lw_all := lw_g (lw_at lw_m15 32 rfl) rfl
theorem q3534 : (Jvm.Cond.methodLink "TrailMarkersLaw" (192 : Nat) ({ cls := "TrailMarkersModel", name := "met", desc := "(I)J" } : Jvm.MethodName)) ∈ lw_all := lw_g (lw_at lw_m15 37 rfl) rfl
theorem q3535 : (Jvm.Cond.instanceMethod ({ cls := "TrailMarkersModel", name := "met", desc := "(I)J" } : Jvm.MethodName)) ∈ lw_all := lw_g (lw_at lw_m15 38 rfl) rfl
theorem q3536 : (Jvm.Cond.selects "TrailMarkersModel" ({ cls := "TrailMarkersModel", name := "met", desc := "(I)J" } : Jvm.MethodName) ({ cls := "TrailMarkersModel", name := "met", desc := "(I)J" } : Jvm.MethodName)) ∈ lw_all := lw_g (lw_at lw_m15 39 rfl) rfl
theorem q3537 : (Jvm.Cond.code ({ cls := "TrailMarkersModel", name := "met", desc := "(I)J" } : Jvm.MethodName) prog_13_method_87_code (5 : Nat) (Option.some Jvm.ClassFile.FieldType.long)) ∈ lw_all := lw_g (lw_at lw_m15 40 rfl) rfl
theorem q3538 : (Jvm.Cond.methodLink "TrailMarkersLaw" (195 : Nat) ({ cls := "TrailMarkersModel", name := "route", desc := "(II)I" } : Jvm.MethodName)) ∈ lw_all := lw_g (lw_at lw_m15 41 rfl) rfl
theorem q3539 : (Jvm.Cond.instanceMethod ({ cls := "TrailMarkersModel", name := "route", desc := "(II)I" } : Jvm.MethodName)) ∈ lw_all := lw_g (lw_at lw_m15 42 rfl) rfl
theorem q3540 : (Jvm.Cond.selects "TrailMarkersModel" ({ cls := "TrailMarkersModel", name := "route", desc := "(II)I" } : Jvm.MethodName) ({ cls := "TrailMarkersModel", name := "route", desc := "(II)I" } : Jvm.MethodName)) ∈ lw_all := lw_g (lw_at lw_m15 43 rfl) rfl
theorem q3541 : (Jvm.Cond.code ({ cls := "TrailMarkersModel", name := "route", desc := "(II)I" } : Jvm.MethodName) prog_13_method_88_code (3 : Nat) (Option.some Jvm.ClassFile.FieldType.int)) ∈ lw_all := lw_g (lw_at lw_m15 44 rfl) rfl
theorem q3554 : (Jvm.Cond.methodLink "TrailMarkersLaw" (198 : Nat) ({ cls := "TrailMarkersModel", name := "routePost", desc := "(II)I" } : Jvm.MethodName)) ∈ lw_all := lw_g (lw_at lw_m15 57 rfl) rfl
theorem q3555 : (Jvm.Cond.instanceMethod ({ cls := "TrailMarkersModel", name := "routePost", desc := "(II)I" } : Jvm.MethodName)) ∈ lw_all := lw_g (lw_at lw_m15 58 rfl) rfl
theorem q3556 : (Jvm.Cond.selects "TrailMarkersModel" ({ cls := "TrailMarkersModel", name := "routePost", desc := "(II)I" } : Jvm.MethodName) ({ cls := "TrailMarkersModel", name := "routePost", desc := "(II)I" } : Jvm.MethodName)) ∈ lw_all := lw_g (lw_at lw_m15 59 rfl) rfl
theorem q3557 : (Jvm.Cond.code ({ cls := "TrailMarkersModel", name := "routePost", desc := "(II)I" } : Jvm.MethodName) prog_13_method_90_code (3 : Nat) (Option.some Jvm.ClassFile.FieldType.int)) ∈ lw_all := lw_g (lw_at lw_m15 60 rfl) rfl
theorem q3562 : (Jvm.Cond.methodLink "TrailMarkersLaw" (201 : Nat) ({ cls := "TrailMarkersModel", name := "routeCell", desc := "(II)I" } : Jvm.MethodName)) ∈ lw_all := lw_g (lw_at lw_m15 65 rfl) rfl
theorem q3563 : (Jvm.Cond.instanceMethod ({ cls := "TrailMarkersModel", name := "routeCell", desc := "(II)I" } : Jvm.MethodName)) ∈ lw_all := lw_g (lw_at lw_m15 66 rfl) rfl
theorem q3564 : (Jvm.Cond.selects "TrailMarkersModel" ({ cls := "TrailMarkersModel", name := "routeCell", desc := "(II)I" } : Jvm.MethodName) ({ cls := "TrailMarkersModel", name := "routeCell", desc := "(II)I" } : Jvm.MethodName)) ∈ lw_all := lw_g (lw_at lw_m15 67 rfl) rfl
theorem q3565 : (Jvm.Cond.code ({ cls := "TrailMarkersModel", name := "routeCell", desc := "(II)I" } : Jvm.MethodName) prog_13_method_91_code (3 : Nat) (Option.some Jvm.ClassFile.FieldType.int)) ∈ lw_all := lw_g (lw_at lw_m15 68 rfl) rfl
theorem q3566 : (Jvm.Cond.methodLink "TrailMarkersLaw" (204 : Nat) ({ cls := "TrailMarkersModel", name := "inferred", desc := "(II)I" } : Jvm.MethodName)) ∈ lw_all := lw_g (lw_at lw_m15 69 rfl) rfl
theorem q3567 : (Jvm.Cond.instanceMethod ({ cls := "TrailMarkersModel", name := "inferred", desc := "(II)I" } : Jvm.MethodName)) ∈ lw_all := lw_g (lw_at lw_m15 70 rfl) rfl
theorem q3568 : (Jvm.Cond.selects "TrailMarkersModel" ({ cls := "TrailMarkersModel", name := "inferred", desc := "(II)I" } : Jvm.MethodName) ({ cls := "TrailMarkersModel", name := "inferred", desc := "(II)I" } : Jvm.MethodName)) ∈ lw_all := lw_g (lw_at lw_m15 71 rfl) rfl
theorem q3569 : (Jvm.Cond.code ({ cls := "TrailMarkersModel", name := "inferred", desc := "(II)I" } : Jvm.MethodName) prog_13_method_92_code (3 : Nat) (Option.some Jvm.ClassFile.FieldType.int)) ∈ lw_all := lw_g (lw_at lw_m15 72 rfl) rfl
theorem q3570 : (Jvm.Cond.methodLink "TrailMarkersLaw" (207 : Nat) ({ cls := "TrailMarkersModel", name := "shared", desc := "(II)I" } : Jvm.MethodName)) ∈ lw_all := lw_g (lw_at lw_m15 73 rfl) rfl
theorem q3571 : (Jvm.Cond.instanceMethod ({ cls := "TrailMarkersModel", name := "shared", desc := "(II)I" } : Jvm.MethodName)) ∈ lw_all := lw_g (lw_at lw_m15 74 rfl) rfl
theorem q3572 : (Jvm.Cond.selects "TrailMarkersModel" ({ cls := "TrailMarkersModel", name := "shared", desc := "(II)I" } : Jvm.MethodName) ({ cls := "TrailMarkersModel", name := "shared", desc := "(II)I" } : Jvm.MethodName)) ∈ lw_all := lw_g (lw_at lw_m15 75 rfl) rfl
theorem q3573 : (Jvm.Cond.code ({ cls := "TrailMarkersModel", name := "shared", desc := "(II)I" } : Jvm.MethodName) prog_13_method_94_code (5 : Nat) (Option.some Jvm.ClassFile.FieldType.int)) ∈ lw_all := lw_g (lw_at lw_m15 76 rfl) rfl
theorem q3578 : (Jvm.Cond.methodLink "TrailMarkersLaw" (210 : Nat) ({ cls := "TrailMarkersModel", name := "why", desc := "(II)I" } : Jvm.MethodName)) ∈ lw_all := lw_g (lw_at lw_m15 81 rfl) rfl
theorem q3579 : (Jvm.Cond.instanceMethod ({ cls := "TrailMarkersModel", name := "why", desc := "(II)I" } : Jvm.MethodName)) ∈ lw_all := lw_g (lw_at lw_m15 82 rfl) rfl
theorem q3580 : (Jvm.Cond.selects "TrailMarkersModel" ({ cls := "TrailMarkersModel", name := "why", desc := "(II)I" } : Jvm.MethodName) ({ cls := "TrailMarkersModel", name := "why", desc := "(II)I" } : Jvm.MethodName)) ∈ lw_all := lw_g (lw_at lw_m15 83 rfl) rfl
theorem q3581 : (Jvm.Cond.code ({ cls := "TrailMarkersModel", name := "why", desc := "(II)I" } : Jvm.MethodName) prog_13_method_96_code (3 : Nat) (Option.some Jvm.ClassFile.FieldType.int)) ∈ lw_all := lw_g (lw_at lw_m15 84 rfl) rfl
theorem q3586 : (Jvm.Cond.methodLink "TrailMarkersLaw" (214 : Nat) ({ cls := "TrailMarkersModel", name := "ifOther", desc := "(III)I" } : Jvm.MethodName)) ∈ lw_all := lw_g (lw_at lw_m15 89 rfl) rfl
theorem q3587 : (Jvm.Cond.instanceMethod ({ cls := "TrailMarkersModel", name := "ifOther", desc := "(III)I" } : Jvm.MethodName)) ∈ lw_all := lw_g (lw_at lw_m15 90 rfl) rfl
theorem q3588 : (Jvm.Cond.selects "TrailMarkersModel" ({ cls := "TrailMarkersModel", name := "ifOther", desc := "(III)I" } : Jvm.MethodName) ({ cls := "TrailMarkersModel", name := "ifOther", desc := "(III)I" } : Jvm.MethodName)) ∈ lw_all := lw_g (lw_at lw_m15 91 rfl) rfl
theorem q3589 : (Jvm.Cond.code ({ cls := "TrailMarkersModel", name := "ifOther", desc := "(III)I" } : Jvm.MethodName) prog_13_method_101_code (4 : Nat) (Option.some Jvm.ClassFile.FieldType.int)) ∈ lw_all := lw_g (lw_at lw_m15 92 rfl) rfl
theorem q3606 : (Jvm.Cond.methodLink "TrailMarkersLaw" (217 : Nat) ({ cls := "TrailMarkersModel", name := "ifSet", desc := "(IIII)I" } : Jvm.MethodName)) ∈ lw_all := lw_g (lw_at lw_m15 109 rfl) rfl
theorem q3607 : (Jvm.Cond.instanceMethod ({ cls := "TrailMarkersModel", name := "ifSet", desc := "(IIII)I" } : Jvm.MethodName)) ∈ lw_all := lw_g (lw_at lw_m15 110 rfl) rfl
theorem q3608 : (Jvm.Cond.selects "TrailMarkersModel" ({ cls := "TrailMarkersModel", name := "ifSet", desc := "(IIII)I" } : Jvm.MethodName) ({ cls := "TrailMarkersModel", name := "ifSet", desc := "(IIII)I" } : Jvm.MethodName)) ∈ lw_all := lw_g (lw_at lw_m15 111 rfl) rfl
theorem q3609 : (Jvm.Cond.code ({ cls := "TrailMarkersModel", name := "ifSet", desc := "(IIII)I" } : Jvm.MethodName) prog_13_method_102_code (5 : Nat) (Option.some Jvm.ClassFile.FieldType.int)) ∈ lw_all := lw_g (lw_at lw_m15 112 rfl) rfl
theorem q3610 : (Jvm.Cond.methodLink "TrailMarkersLaw" (220 : Nat) ({ cls := "TrailMarkersModel", name := "bestMend", desc := "(I)I" } : Jvm.MethodName)) ∈ lw_all := lw_g (lw_at lw_m15 113 rfl) rfl
theorem q3611 : (Jvm.Cond.instanceMethod ({ cls := "TrailMarkersModel", name := "bestMend", desc := "(I)I" } : Jvm.MethodName)) ∈ lw_all := lw_g (lw_at lw_m15 114 rfl) rfl
theorem q3612 : (Jvm.Cond.selects "TrailMarkersModel" ({ cls := "TrailMarkersModel", name := "bestMend", desc := "(I)I" } : Jvm.MethodName) ({ cls := "TrailMarkersModel", name := "bestMend", desc := "(I)I" } : Jvm.MethodName)) ∈ lw_all := lw_g (lw_at lw_m15 115 rfl) rfl
theorem q3613 : (Jvm.Cond.code ({ cls := "TrailMarkersModel", name := "bestMend", desc := "(I)I" } : Jvm.MethodName) prog_13_method_104_code (2 : Nat) (Option.some Jvm.ClassFile.FieldType.int)) ∈ lw_all := lw_g (lw_at lw_m15 116 rfl) rfl
theorem q3618 : (Jvm.Cond.methodLink "TrailMarkersLaw" (223 : Nat) ({ cls := "TrailMarkersModel", name := "worstLoss", desc := "(I)I" } : Jvm.MethodName)) ∈ lw_all := lw_g (lw_at lw_m15 121 rfl) rfl
theorem q3619 : (Jvm.Cond.instanceMethod ({ cls := "TrailMarkersModel", name := "worstLoss", desc := "(I)I" } : Jvm.MethodName)) ∈ lw_all := lw_g (lw_at lw_m15 122 rfl) rfl
theorem q3620 : (Jvm.Cond.selects "TrailMarkersModel" ({ cls := "TrailMarkersModel", name := "worstLoss", desc := "(I)I" } : Jvm.MethodName) ({ cls := "TrailMarkersModel", name := "worstLoss", desc := "(I)I" } : Jvm.MethodName)) ∈ lw_all := lw_g (lw_at lw_m15 123 rfl) rfl
theorem q3621 : (Jvm.Cond.code ({ cls := "TrailMarkersModel", name := "worstLoss", desc := "(I)I" } : Jvm.MethodName) prog_13_method_105_code (2 : Nat) (Option.some Jvm.ClassFile.FieldType.int)) ∈ lw_all := lw_g (lw_at lw_m15 124 rfl) rfl
theorem q3622 : (Jvm.Cond.methodLink "TrailMarkersLaw" (226 : Nat) ({ cls := "TrailMarkersModel", name := "leastGap", desc := "(I)I" } : Jvm.MethodName)) ∈ lw_all := lw_g (lw_at lw_m15 125 rfl) rfl
theorem q3623 : (Jvm.Cond.instanceMethod ({ cls := "TrailMarkersModel", name := "leastGap", desc := "(I)I" } : Jvm.MethodName)) ∈ lw_all := lw_g (lw_at lw_m15 126 rfl) rfl
theorem q3624 : (Jvm.Cond.selects "TrailMarkersModel" ({ cls := "TrailMarkersModel", name := "leastGap", desc := "(I)I" } : Jvm.MethodName) ({ cls := "TrailMarkersModel", name := "leastGap", desc := "(I)I" } : Jvm.MethodName)) ∈ lw_all := lw_g (lw_at lw_m15 127 rfl) rfl
theorem q3625 : (Jvm.Cond.code ({ cls := "TrailMarkersModel", name := "leastGap", desc := "(I)I" } : Jvm.MethodName) prog_13_method_106_code (5 : Nat) (Option.some Jvm.ClassFile.FieldType.int)) ∈ lw_all := lw_g (lw_at lw_m15 128 rfl) rfl
theorem q3626 : (Jvm.Cond.methodLink "TrailMarkersLaw" (230 : Nat) ({ cls := "TrailMarkersModel", name := "gap", desc := "()I" } : Jvm.MethodName)) ∈ lw_all := lw_g (lw_at lw_m15 129 rfl) rfl
theorem q3627 : (Jvm.Cond.instanceMethod ({ cls := "TrailMarkersModel", name := "gap", desc := "()I" } : Jvm.MethodName)) ∈ lw_all := lw_g (lw_at lw_m15 130 rfl) rfl
theorem q3628 : (Jvm.Cond.selects "TrailMarkersModel" ({ cls := "TrailMarkersModel", name := "gap", desc := "()I" } : Jvm.MethodName) ({ cls := "TrailMarkersModel", name := "gap", desc := "()I" } : Jvm.MethodName)) ∈ lw_all := lw_g (lw_at lw_m15 131 rfl) rfl
theorem q3629 : (Jvm.Cond.code ({ cls := "TrailMarkersModel", name := "gap", desc := "()I" } : Jvm.MethodName) prog_13_method_107_code (7 : Nat) (Option.some Jvm.ClassFile.FieldType.int)) ∈ lw_all := lw_g (lw_at lw_m15 132 rfl) rfl
theorem q3631 : (Jvm.Cond.methodLink "TrailMarkersLaw" (233 : Nat) ({ cls := "TrailMarkersModel", name := "meanBits", desc := "(I)I" } : Jvm.MethodName)) ∈ lw_all := lw_g (lw_at lw_m15 134 rfl) rfl
theorem q3632 : (Jvm.Cond.instanceMethod ({ cls := "TrailMarkersModel", name := "meanBits", desc := "(I)I" } : Jvm.MethodName)) ∈ lw_all := lw_g (lw_at lw_m15 135 rfl) rfl
theorem q3633 : (Jvm.Cond.selects "TrailMarkersModel" ({ cls := "TrailMarkersModel", name := "meanBits", desc := "(I)I" } : Jvm.MethodName) ({ cls := "TrailMarkersModel", name := "meanBits", desc := "(I)I" } : Jvm.MethodName)) ∈ lw_all := lw_g (lw_at lw_m15 136 rfl) rfl
theorem q3634 : (Jvm.Cond.code ({ cls := "TrailMarkersModel", name := "meanBits", desc := "(I)I" } : Jvm.MethodName) prog_13_method_108_code (3 : Nat) (Option.some Jvm.ClassFile.FieldType.int)) ∈ lw_all := lw_g (lw_at lw_m15 137 rfl) rfl
theorem q3636 : (Jvm.Cond.methodLink "TrailMarkersLaw" (238 : Nat) ({ cls := "TrailMarkersModel", name := "reached", desc := "()D" } : Jvm.MethodName)) ∈ lw_all := lw_g (lw_at lw_m15 139 rfl) rfl
theorem q3637 : (Jvm.Cond.instanceMethod ({ cls := "TrailMarkersModel", name := "reached", desc := "()D" } : Jvm.MethodName)) ∈ lw_all := lw_g (lw_at lw_m15 140 rfl) rfl
theorem q3638 : (Jvm.Cond.selects "TrailMarkersModel" ({ cls := "TrailMarkersModel", name := "reached", desc := "()D" } : Jvm.MethodName) ({ cls := "TrailMarkersModel", name := "reached", desc := "()D" } : Jvm.MethodName)) ∈ lw_all := lw_g (lw_at lw_m15 141 rfl) rfl
theorem q3639 : (Jvm.Cond.code ({ cls := "TrailMarkersModel", name := "reached", desc := "()D" } : Jvm.MethodName) prog_13_method_109_code (4 : Nat) (Option.some Jvm.ClassFile.FieldType.double)) ∈ lw_all := lw_g (lw_at lw_m15 142 rfl) rfl
theorem q3640 : (Jvm.Cond.methodLink "TrailMarkersLaw" (241 : Nat) ({ cls := "TrailMarkersModel", name := "writeRoute", desc := "(I)I" } : Jvm.MethodName)) ∈ lw_all := lw_g (lw_at lw_m15 143 rfl) rfl
theorem q3641 : (Jvm.Cond.instanceMethod ({ cls := "TrailMarkersModel", name := "writeRoute", desc := "(I)I" } : Jvm.MethodName)) ∈ lw_all := lw_g (lw_at lw_m15 144 rfl) rfl
theorem q3642 : (Jvm.Cond.selects "TrailMarkersModel" ({ cls := "TrailMarkersModel", name := "writeRoute", desc := "(I)I" } : Jvm.MethodName) ({ cls := "TrailMarkersModel", name := "writeRoute", desc := "(I)I" } : Jvm.MethodName)) ∈ lw_all := lw_g (lw_at lw_m15 145 rfl) rfl
theorem q3643 : (Jvm.Cond.code ({ cls := "TrailMarkersModel", name := "writeRoute", desc := "(I)I" } : Jvm.MethodName) prog_13_method_115_code (3 : Nat) (Option.some Jvm.ClassFile.FieldType.int)) ∈ lw_all := lw_g (lw_at lw_m15 146 rfl) rfl
theorem q3665 : (Jvm.Cond.methodLink "TrailMarkersLaw" (244 : Nat) ({ cls := "TrailMarkersModel", name := "writeRow", desc := "(I)I" } : Jvm.MethodName)) ∈ lw_all := lw_g (lw_at lw_m15 168 rfl) rfl
theorem q3666 : (Jvm.Cond.instanceMethod ({ cls := "TrailMarkersModel", name := "writeRow", desc := "(I)I" } : Jvm.MethodName)) ∈ lw_all := lw_g (lw_at lw_m15 169 rfl) rfl
theorem q3667 : (Jvm.Cond.selects "TrailMarkersModel" ({ cls := "TrailMarkersModel", name := "writeRow", desc := "(I)I" } : Jvm.MethodName) ({ cls := "TrailMarkersModel", name := "writeRow", desc := "(I)I" } : Jvm.MethodName)) ∈ lw_all := lw_g (lw_at lw_m15 170 rfl) rfl
theorem q3668 : (Jvm.Cond.code ({ cls := "TrailMarkersModel", name := "writeRow", desc := "(I)I" } : Jvm.MethodName) prog_13_method_116_code (4 : Nat) (Option.some Jvm.ClassFile.FieldType.int)) ∈ lw_all := lw_g (lw_at lw_m15 171 rfl) rfl
theorem q3670 : (Jvm.Cond.methodLink "TrailMarkersLaw" (248 : Nat) ({ cls := "TrailMarkersModel", name := "outputByte", desc := "(I)I" } : Jvm.MethodName)) ∈ lw_all := lw_g (lw_at lw_m15 173 rfl) rfl
theorem q3671 : (Jvm.Cond.instanceMethod ({ cls := "TrailMarkersModel", name := "outputByte", desc := "(I)I" } : Jvm.MethodName)) ∈ lw_all := lw_g (lw_at lw_m15 174 rfl) rfl
theorem q3672 : (Jvm.Cond.selects "TrailMarkersModel" ({ cls := "TrailMarkersModel", name := "outputByte", desc := "(I)I" } : Jvm.MethodName) ({ cls := "TrailMarkersModel", name := "outputByte", desc := "(I)I" } : Jvm.MethodName)) ∈ lw_all := lw_g (lw_at lw_m15 175 rfl) rfl
theorem q3673 : (Jvm.Cond.code ({ cls := "TrailMarkersModel", name := "outputByte", desc := "(I)I" } : Jvm.MethodName) prog_13_method_117_code (2 : Nat) (Option.some Jvm.ClassFile.FieldType.int)) ∈ lw_all := lw_g (lw_at lw_m15 176 rfl) rfl
theorem q3674 : (Jvm.Cond.arrayClass Jvm.ClassFile.FieldType.long) ∈ lw_all := lw_g (lw_at lw_m15 177 rfl) rfl
theorem nw_X0_8 : NW "TrailMarkersLaw" 8 0 9 [vR none, vR none, vI 0, vI 0, vI 0, vI 0, vR none, vR none, vR none] := ⟨RX1, TX1, 9, tyX1, cf_X1, tyX1_ok, rfl, q196, q197, q138⟩
theorem nw_X0_116 : NW "TrailMarkersLaw" 116 4 53 [vR none, vR none, vR none, vR none, vR none, vR none, vI 0, vI 0, vR none, vR none, vI 0, vI 0, vI 0, vI 0, vI 0, vI 0, vI 0, vI 0, vI 0, vI 0, vI 0, vI 0, vI 0, vI 0, vI 0, vR none, vR none, vR none, vR none, vR none, vR none, vR none, vI 0, vI 0, vI 0, vI 0, vI 0, vI 0, vI 0, vI 0, vI 0, vI 0, vI 0, vI 0, vR none, vR none, vR none, vR none, vI 0, vI 0, vI 0, vR none, vR none] := ⟨RX5, TX5, 53, tyX5, cf_X5, tyX5_ok, rfl, q3021, q3022, q146⟩
theorem m_X0_123 : MV "TrailMarkersLaw" 123 yX5_append cX5_append 6 (Option.some Jvm.ClassFile.FieldType.int) 5 := ⟨q3362, q3363, q3364, q146, q3365, by decide +kernel, by decide +kernel, by decide +kernel⟩
theorem m_X0_119 : MV "TrailMarkersLaw" 119 yX1_append cX1_append 6 (Option.some Jvm.ClassFile.FieldType.int) 5 := ⟨q454, q455, q456, q138, q457, by decide +kernel, by decide +kernel, by decide +kernel⟩
theorem m_X0_130 : MV "TrailMarkersLaw" 130 yX5_thrown cX5_thrown 1 (Option.some Jvm.ClassFile.FieldType.int) 0 := ⟨q3358, q3359, q3360, q146, q3361, by decide +kernel, by decide +kernel, by decide +kernel⟩
theorem m_X0_129 : MV "TrailMarkersLaw" 129 yX5_truncate cX5_truncate 2 (Option.some Jvm.ClassFile.FieldType.int) 1 := ⟨q3370, q3371, q3372, q146, q3373, by decide +kernel, by decide +kernel, by decide +kernel⟩
theorem m_X0_124 : MSX "TrailMarkersLaw" 124 yX0_truncate cX0_truncate 4 (Option.some Jvm.ClassFile.FieldType.int) [((0 : Nat), (9 : Nat), (12 : Nat), (13 : Nat))] 3 := ⟨q1389, q1390, q137, q1391, by decide +kernel, by decide +kernel, by decide +kernel⟩
theorem m_X0_136 : MV "TrailMarkersLaw" 136 yX5_load cX5_load 2 (Option.some Jvm.ClassFile.FieldType.int) 0 := ⟨q3378, q3035, q3036, q146, q3037, by decide +kernel, by decide +kernel, by decide +kernel⟩
theorem m_X0_133 : MVX "TrailMarkersLaw" 133 yX1_load cX1_load 5 (Option.some Jvm.ClassFile.FieldType.int) [((0 : Nat), (40 : Nat), (47 : Nat), (114 : Nat)), ((0 : Nat), (40 : Nat), (73 : Nat), (0 : Nat)), ((47 : Nat), (66 : Nat), (73 : Nat), (0 : Nat)), ((73 : Nat), (75 : Nat), (73 : Nat), (0 : Nat))] 0 := ⟨q462, q463, q464, q138, q465, by decide +kernel, by decide +kernel, by decide +kernel⟩
theorem m_X0_140 : MV "TrailMarkersLaw" 140 yX5_play cX5_play 1 (Option.some Jvm.ClassFile.FieldType.int) 0 := ⟨q3379, q3380, q3381, q146, q3382, by decide +kernel, by decide +kernel, by decide +kernel⟩
theorem m_X0_137 : MVX "TrailMarkersLaw" 137 yX1_play cX1_play 6 (Option.some Jvm.ClassFile.FieldType.int) [((8 : Nat), (42 : Nat), (50 : Nat), (114 : Nat)), ((8 : Nat), (42 : Nat), (76 : Nat), (0 : Nat)), ((50 : Nat), (69 : Nat), (76 : Nat), (0 : Nat)), ((76 : Nat), (78 : Nat), (76 : Nat), (0 : Nat))] 0 := ⟨q1118, q1119, q1120, q138, q1121, by decide +kernel, by decide +kernel, by decide +kernel⟩
theorem m_X0_143 : MV "TrailMarkersLaw" 143 yX5_error cX5_error 2 (Option.some Jvm.ClassFile.FieldType.int) 1 := ⟨q3383, q3384, q3385, q146, q3386, by decide +kernel, by decide +kernel, by decide +kernel⟩
theorem m_X0_141 : MSX "TrailMarkersLaw" 141 yX0_error cX0_error 4 (Option.some Jvm.ClassFile.FieldType.int) [((0 : Nat), (9 : Nat), (12 : Nat), (13 : Nat))] 3 := ⟨q1409, q1410, q137, q1411, by decide +kernel, by decide +kernel, by decide +kernel⟩
theorem m_X0_147 : MV "TrailMarkersLaw" 147 yX5_addPost cX5_addPost 6 (Option.some Jvm.ClassFile.FieldType.int) 4 := ⟨q3387, q3388, q3389, q146, q3390, by decide +kernel, by decide +kernel, by decide +kernel⟩
theorem m_X0_144 : MSX "TrailMarkersLaw" 144 yX0_addPost cX0_addPost 7 (Option.some Jvm.ClassFile.FieldType.int) [((0 : Nat), (14 : Nat), (17 : Nat), (22 : Nat)), ((0 : Nat), (14 : Nat), (21 : Nat), (13 : Nat)), ((0 : Nat), (14 : Nat), (25 : Nat), (24 : Nat))] 6 := ⟨q1416, q1417, q137, q1418, by decide +kernel, by decide +kernel, by decide +kernel⟩
theorem m_X0_150 : MV "TrailMarkersLaw" 150 yX5_dropPost cX5_dropPost 3 (Option.some Jvm.ClassFile.FieldType.int) 1 := ⟨q3394, q3395, q3396, q146, q3397, by decide +kernel, by decide +kernel, by decide +kernel⟩
theorem m_X0_148 : MSX "TrailMarkersLaw" 148 yX0_dropPost cX0_dropPost 4 (Option.some Jvm.ClassFile.FieldType.int) [((0 : Nat), (9 : Nat), (12 : Nat), (22 : Nat))] 3 := ⟨q1471, q1472, q137, q1473, by decide +kernel, by decide +kernel, by decide +kernel⟩
theorem m_X0_154 : MV "TrailMarkersLaw" 154 yX5_turn cX5_turn 4 (Option.some Jvm.ClassFile.FieldType.int) 2 := ⟨q3402, q3403, q3404, q146, q3405, by decide +kernel, by decide +kernel, by decide +kernel⟩
theorem m_X0_151 : MSX "TrailMarkersLaw" 151 yX0_turn cX0_turn 5 (Option.some Jvm.ClassFile.FieldType.int) [((0 : Nat), (10 : Nat), (13 : Nat), (22 : Nat)), ((0 : Nat), (10 : Nat), (17 : Nat), (13 : Nat))] 4 := ⟨q1486, q1487, q137, q1488, by decide +kernel, by decide +kernel, by decide +kernel⟩
theorem m_X0_157 : MV "TrailMarkersLaw" 157 yX5_lose cX5_lose 2 (Option.some Jvm.ClassFile.FieldType.int) 1 := ⟨q3406, q3407, q3408, q146, q3409, by decide +kernel, by decide +kernel, by decide +kernel⟩
theorem m_X0_155 : MSX "TrailMarkersLaw" 155 yX0_lose cX0_lose 4 (Option.some Jvm.ClassFile.FieldType.int) [((0 : Nat), (9 : Nat), (12 : Nat), (22 : Nat)), ((0 : Nat), (9 : Nat), (15 : Nat), (24 : Nat))] 3 := ⟨q1494, q1495, q137, q1496, by decide +kernel, by decide +kernel, by decide +kernel⟩
theorem m_X0_160 : MV "TrailMarkersLaw" 160 yX5_mend cX5_mend 2 (Option.some Jvm.ClassFile.FieldType.int) 1 := ⟨q3422, q3423, q3424, q146, q3425, by decide +kernel, by decide +kernel, by decide +kernel⟩
theorem m_X0_158 : MSX "TrailMarkersLaw" 158 yX0_mend cX0_mend 4 (Option.some Jvm.ClassFile.FieldType.int) [((0 : Nat), (9 : Nat), (12 : Nat), (22 : Nat)), ((0 : Nat), (9 : Nat), (15 : Nat), (24 : Nat))] 3 := ⟨q1505, q1506, q137, q1507, by decide +kernel, by decide +kernel, by decide +kernel⟩
theorem m_X0_164 : MV "TrailMarkersLaw" 164 yX5_setBlock cX5_setBlock 5 (Option.some Jvm.ClassFile.FieldType.int) 3 := ⟨q3426, q3427, q3428, q146, q3429, by decide +kernel, by decide +kernel, by decide +kernel⟩
theorem m_X0_161 : MSX "TrailMarkersLaw" 161 yX0_setBlock cX0_setBlock 6 (Option.some Jvm.ClassFile.FieldType.int) [((0 : Nat), (12 : Nat), (15 : Nat), (13 : Nat)), ((0 : Nat), (12 : Nat), (19 : Nat), (24 : Nat))] 5 := ⟨q1512, q1513, q137, q1514, by decide +kernel, by decide +kernel, by decide +kernel⟩
theorem m_X0_167 : MV "TrailMarkersLaw" 167 yX5_set cX5_set 4 (Option.some Jvm.ClassFile.FieldType.int) 2 := ⟨q3430, q3431, q3432, q146, q3433, by decide +kernel, by decide +kernel, by decide +kernel⟩
theorem m_X0_165 : MSX "TrailMarkersLaw" 165 yX0_set cX0_set 5 (Option.some Jvm.ClassFile.FieldType.int) [((0 : Nat), (10 : Nat), (13 : Nat), (13 : Nat))] 4 := ⟨q1523, q1524, q137, q1525, by decide +kernel, by decide +kernel, by decide +kernel⟩
theorem m_X0_171 : MV "TrailMarkersLaw" 171 yX5_undo cX5_undo 1 (Option.some Jvm.ClassFile.FieldType.int) 0 := ⟨q3437, q3438, q3439, q146, q3440, by decide +kernel, by decide +kernel, by decide +kernel⟩
theorem m_X0_168 : MSX "TrailMarkersLaw" 168 yX0_undo cX0_undo 3 (Option.some Jvm.ClassFile.FieldType.int) [((0 : Nat), (8 : Nat), (11 : Nat), (24 : Nat))] 2 := ⟨q1536, q1537, q137, q1538, by decide +kernel, by decide +kernel, by decide +kernel⟩
theorem m_X0_174 : MV "TrailMarkersLaw" 174 yX5_save cX5_save 2 (Option.some Jvm.ClassFile.FieldType.int) 1 := ⟨q3441, q3442, q3443, q146, q3444, by decide +kernel, by decide +kernel, by decide +kernel⟩
theorem m_X0_172 : MSX "TrailMarkersLaw" 172 yX0_save cX0_save 4 (Option.some Jvm.ClassFile.FieldType.int) [((0 : Nat), (9 : Nat), (12 : Nat), (13 : Nat))] 3 := ⟨q1558, q1559, q137, q1560, by decide +kernel, by decide +kernel, by decide +kernel⟩
theorem m_X0_177 : MV "TrailMarkersLaw" 177 yX5_restore cX5_restore 3 (Option.some Jvm.ClassFile.FieldType.int) 1 := ⟨q3445, q3446, q3447, q146, q3448, by decide +kernel, by decide +kernel, by decide +kernel⟩
theorem m_X0_175 : MSX "TrailMarkersLaw" 175 yX0_restore cX0_restore 4 (Option.some Jvm.ClassFile.FieldType.int) [((0 : Nat), (9 : Nat), (12 : Nat), (13 : Nat)), ((0 : Nat), (9 : Nat), (15 : Nat), (24 : Nat))] 3 := ⟨q1565, q1566, q137, q1567, by decide +kernel, by decide +kernel, by decide +kernel⟩
theorem m_X0_180 : MV "TrailMarkersLaw" 180 yX5_count cX5_count 2 (Option.some Jvm.ClassFile.FieldType.int) 1 := ⟨q3449, q3450, q3451, q146, q3452, by decide +kernel, by decide +kernel, by decide +kernel⟩
theorem m_X0_178 : MSX "TrailMarkersLaw" 178 yX0_count cX0_count 4 (Option.some Jvm.ClassFile.FieldType.int) [((0 : Nat), (9 : Nat), (12 : Nat), (13 : Nat))] 3 := ⟨q1572, q1573, q137, q1574, by decide +kernel, by decide +kernel, by decide +kernel⟩
theorem m_X0_183 : MV "TrailMarkersLaw" 183 yX5_post cX5_post 3 (Option.some Jvm.ClassFile.FieldType.int) 2 := ⟨q3510, q3511, q3512, q146, q3513, by decide +kernel, by decide +kernel, by decide +kernel⟩
theorem m_X0_181 : MSX "TrailMarkersLaw" 181 yX0_post cX0_post 5 (Option.some Jvm.ClassFile.FieldType.int) [((0 : Nat), (10 : Nat), (13 : Nat), (22 : Nat)), ((0 : Nat), (10 : Nat), (17 : Nat), (13 : Nat))] 4 := ⟨q1589, q1590, q137, q1591, by decide +kernel, by decide +kernel, by decide +kernel⟩
theorem m_X0_186 : MV "TrailMarkersLaw" 186 yX5_at cX5_at 3 (Option.some Jvm.ClassFile.FieldType.int) 2 := ⟨q3522, q3523, q3524, q146, q3525, by decide +kernel, by decide +kernel, by decide +kernel⟩
theorem m_X0_184 : MSX "TrailMarkersLaw" 184 yX0_at cX0_at 5 (Option.some Jvm.ClassFile.FieldType.int) [((0 : Nat), (10 : Nat), (13 : Nat), (13 : Nat))] 4 := ⟨q1607, q1608, q137, q1609, by decide +kernel, by decide +kernel, by decide +kernel⟩
theorem m_X0_189 : MV "TrailMarkersLaw" 189 yX5_colour cX5_colour 3 (Option.some Jvm.ClassFile.FieldType.int) 2 := ⟨q3526, q3527, q3528, q146, q3529, by decide +kernel, by decide +kernel, by decide +kernel⟩
theorem m_X0_187 : MSX "TrailMarkersLaw" 187 yX0_colour cX0_colour 5 (Option.some Jvm.ClassFile.FieldType.int) [((0 : Nat), (10 : Nat), (13 : Nat), (22 : Nat)), ((0 : Nat), (10 : Nat), (17 : Nat), (13 : Nat))] 4 := ⟨q1615, q1616, q137, q1617, by decide +kernel, by decide +kernel, by decide +kernel⟩
theorem m_X0_192 : MV "TrailMarkersLaw" 192 yX5_met cX5_met 5 (Option.some Jvm.ClassFile.FieldType.long) 1 := ⟨q3534, q3535, q3536, q146, q3537, by decide +kernel, by decide +kernel, by decide +kernel⟩
theorem m_X0_190 : MSX "TrailMarkersLaw" 190 yX0_met cX0_met 4 (Option.some Jvm.ClassFile.FieldType.int) [((0 : Nat), (8 : Nat), (11 : Nat), (22 : Nat))] 3 := ⟨q1635, q1636, q137, q1637, by decide +kernel, by decide +kernel, by decide +kernel⟩
theorem m_X0_195 : MV "TrailMarkersLaw" 195 yX5_route cX5_route 3 (Option.some Jvm.ClassFile.FieldType.int) 2 := ⟨q3538, q3539, q3540, q146, q3541, by decide +kernel, by decide +kernel, by decide +kernel⟩
theorem m_X0_193 : MSX "TrailMarkersLaw" 193 yX0_route cX0_route 5 (Option.some Jvm.ClassFile.FieldType.int) [((0 : Nat), (10 : Nat), (13 : Nat), (22 : Nat)), ((0 : Nat), (10 : Nat), (17 : Nat), (13 : Nat))] 4 := ⟨q1642, q1643, q137, q1644, by decide +kernel, by decide +kernel, by decide +kernel⟩
theorem m_X0_198 : MV "TrailMarkersLaw" 198 yX5_routePost cX5_routePost 3 (Option.some Jvm.ClassFile.FieldType.int) 2 := ⟨q3554, q3555, q3556, q146, q3557, by decide +kernel, by decide +kernel, by decide +kernel⟩
theorem m_X0_196 : MSX "TrailMarkersLaw" 196 yX0_routePost cX0_routePost 5 (Option.some Jvm.ClassFile.FieldType.int) [((0 : Nat), (10 : Nat), (13 : Nat), (22 : Nat))] 4 := ⟨q1657, q1658, q137, q1659, by decide +kernel, by decide +kernel, by decide +kernel⟩
theorem m_X0_201 : MV "TrailMarkersLaw" 201 yX5_routeCell cX5_routeCell 3 (Option.some Jvm.ClassFile.FieldType.int) 2 := ⟨q3562, q3563, q3564, q146, q3565, by decide +kernel, by decide +kernel, by decide +kernel⟩
theorem m_X0_199 : MSX "TrailMarkersLaw" 199 yX0_routeCell cX0_routeCell 5 (Option.some Jvm.ClassFile.FieldType.int) [((0 : Nat), (10 : Nat), (13 : Nat), (22 : Nat))] 4 := ⟨q1664, q1665, q137, q1666, by decide +kernel, by decide +kernel, by decide +kernel⟩
theorem m_X0_204 : MV "TrailMarkersLaw" 204 yX5_inferred cX5_inferred 3 (Option.some Jvm.ClassFile.FieldType.int) 2 := ⟨q3566, q3567, q3568, q146, q3569, by decide +kernel, by decide +kernel, by decide +kernel⟩
theorem m_X0_202 : MSX "TrailMarkersLaw" 202 yX0_inferred cX0_inferred 5 (Option.some Jvm.ClassFile.FieldType.int) [((0 : Nat), (10 : Nat), (13 : Nat), (22 : Nat))] 4 := ⟨q1671, q1672, q137, q1673, by decide +kernel, by decide +kernel, by decide +kernel⟩
theorem m_X0_207 : MV "TrailMarkersLaw" 207 yX5_shared cX5_shared 5 (Option.some Jvm.ClassFile.FieldType.int) 2 := ⟨q3570, q3571, q3572, q146, q3573, by decide +kernel, by decide +kernel, by decide +kernel⟩
theorem m_X0_205 : MSX "TrailMarkersLaw" 205 yX0_shared cX0_shared 5 (Option.some Jvm.ClassFile.FieldType.int) [((0 : Nat), (10 : Nat), (13 : Nat), (22 : Nat))] 4 := ⟨q1678, q1679, q137, q1680, by decide +kernel, by decide +kernel, by decide +kernel⟩
theorem m_X0_210 : MV "TrailMarkersLaw" 210 yX5_why cX5_why 3 (Option.some Jvm.ClassFile.FieldType.int) 2 := ⟨q3578, q3579, q3580, q146, q3581, by decide +kernel, by decide +kernel, by decide +kernel⟩
theorem m_X0_208 : MSX "TrailMarkersLaw" 208 yX0_why cX0_why 5 (Option.some Jvm.ClassFile.FieldType.int) [((0 : Nat), (10 : Nat), (13 : Nat), (22 : Nat)), ((0 : Nat), (10 : Nat), (17 : Nat), (13 : Nat))] 4 := ⟨q2853, q2854, q137, q2855, by decide +kernel, by decide +kernel, by decide +kernel⟩
theorem m_X0_214 : MV "TrailMarkersLaw" 214 yX5_ifOther cX5_ifOther 4 (Option.some Jvm.ClassFile.FieldType.int) 3 := ⟨q3586, q3587, q3588, q146, q3589, by decide +kernel, by decide +kernel, by decide +kernel⟩
theorem m_X0_211 : MSX "TrailMarkersLaw" 211 yX0_ifOther cX0_ifOther 6 (Option.some Jvm.ClassFile.FieldType.int) [((0 : Nat), (12 : Nat), (15 : Nat), (22 : Nat)), ((0 : Nat), (12 : Nat), (19 : Nat), (13 : Nat))] 5 := ⟨q2863, q2864, q137, q2865, by decide +kernel, by decide +kernel, by decide +kernel⟩
theorem m_X0_217 : MV "TrailMarkersLaw" 217 yX5_ifSet cX5_ifSet 5 (Option.some Jvm.ClassFile.FieldType.int) 4 := ⟨q3606, q3607, q3608, q146, q3609, by decide +kernel, by decide +kernel, by decide +kernel⟩
theorem m_X0_215 : MSX "TrailMarkersLaw" 215 yX0_ifSet cX0_ifSet 7 (Option.some Jvm.ClassFile.FieldType.int) [((0 : Nat), (14 : Nat), (17 : Nat), (22 : Nat)), ((0 : Nat), (14 : Nat), (21 : Nat), (13 : Nat))] 6 := ⟨q2879, q2880, q137, q2881, by decide +kernel, by decide +kernel, by decide +kernel⟩
theorem m_X0_220 : MV "TrailMarkersLaw" 220 yX5_bestMend cX5_bestMend 2 (Option.some Jvm.ClassFile.FieldType.int) 1 := ⟨q3610, q3611, q3612, q146, q3613, by decide +kernel, by decide +kernel, by decide +kernel⟩
theorem m_X0_218 : MSX "TrailMarkersLaw" 218 yX0_bestMend cX0_bestMend 4 (Option.some Jvm.ClassFile.FieldType.int) [((0 : Nat), (9 : Nat), (12 : Nat), (22 : Nat))] 3 := ⟨q2886, q2887, q137, q2888, by decide +kernel, by decide +kernel, by decide +kernel⟩
theorem m_X0_223 : MV "TrailMarkersLaw" 223 yX5_worstLoss cX5_worstLoss 2 (Option.some Jvm.ClassFile.FieldType.int) 1 := ⟨q3618, q3619, q3620, q146, q3621, by decide +kernel, by decide +kernel, by decide +kernel⟩
theorem m_X0_221 : MSX "TrailMarkersLaw" 221 yX0_worstLoss cX0_worstLoss 4 (Option.some Jvm.ClassFile.FieldType.int) [((0 : Nat), (9 : Nat), (12 : Nat), (22 : Nat))] 3 := ⟨q2897, q2898, q137, q2899, by decide +kernel, by decide +kernel, by decide +kernel⟩
theorem m_X0_226 : MV "TrailMarkersLaw" 226 yX5_leastGap cX5_leastGap 5 (Option.some Jvm.ClassFile.FieldType.int) 1 := ⟨q3622, q3623, q3624, q146, q3625, by decide +kernel, by decide +kernel, by decide +kernel⟩
theorem m_X0_224 : MSX "TrailMarkersLaw" 224 yX0_leastGap cX0_leastGap 4 (Option.some Jvm.ClassFile.FieldType.int) [((0 : Nat), (9 : Nat), (12 : Nat), (22 : Nat))] 3 := ⟨q2904, q2905, q137, q2906, by decide +kernel, by decide +kernel, by decide +kernel⟩
theorem m_X0_230 : MV "TrailMarkersLaw" 230 yX5_gap cX5_gap 7 (Option.some Jvm.ClassFile.FieldType.int) 0 := ⟨q3626, q3627, q3628, q146, q3629, by decide +kernel, by decide +kernel, by decide +kernel⟩
theorem m_X0_227 : MV "TrailMarkersLaw" 227 yX1_gap cX1_gap 6 (Option.some Jvm.ClassFile.FieldType.int) 0 := ⟨q1130, q1131, q1132, q138, q1133, by decide +kernel, by decide +kernel, by decide +kernel⟩
theorem m_X0_233 : MV "TrailMarkersLaw" 233 yX5_meanBits cX5_meanBits 3 (Option.some Jvm.ClassFile.FieldType.int) 1 := ⟨q3631, q3632, q3633, q146, q3634, by decide +kernel, by decide +kernel, by decide +kernel⟩
theorem m_X0_231 : MSX "TrailMarkersLaw" 231 yX0_meanBits cX0_meanBits 4 (Option.some Jvm.ClassFile.FieldType.int) [((0 : Nat), (9 : Nat), (12 : Nat), (22 : Nat))] 3 := ⟨q2911, q2912, q137, q2913, by decide +kernel, by decide +kernel, by decide +kernel⟩
theorem m_X0_238 : MV "TrailMarkersLaw" 238 yX5_reached cX5_reached 4 (Option.some Jvm.ClassFile.FieldType.double) 0 := ⟨q3636, q3637, q3638, q146, q3639, by decide +kernel, by decide +kernel, by decide +kernel⟩
theorem m_X0_234 : MV "TrailMarkersLaw" 234 yX1_reached cX1_reached 5 (Option.some Jvm.ClassFile.FieldType.double) 0 := ⟨q1361, q1362, q1363, q138, q1364, by decide +kernel, by decide +kernel, by decide +kernel⟩
theorem m_X0_241 : MV "TrailMarkersLaw" 241 yX5_writeRoute cX5_writeRoute 3 (Option.some Jvm.ClassFile.FieldType.int) 1 := ⟨q3640, q3641, q3642, q146, q3643, by decide +kernel, by decide +kernel, by decide +kernel⟩
theorem m_X0_239 : MSX "TrailMarkersLaw" 239 yX0_writeRoute cX0_writeRoute 4 (Option.some Jvm.ClassFile.FieldType.int) [((0 : Nat), (9 : Nat), (12 : Nat), (22 : Nat))] 3 := ⟨q2929, q2930, q137, q2931, by decide +kernel, by decide +kernel, by decide +kernel⟩
theorem m_X0_244 : MV "TrailMarkersLaw" 244 yX5_writeRow cX5_writeRow 4 (Option.some Jvm.ClassFile.FieldType.int) 1 := ⟨q3665, q3666, q3667, q146, q3668, by decide +kernel, by decide +kernel, by decide +kernel⟩
theorem m_X0_242 : MSX "TrailMarkersLaw" 242 yX0_writeRow cX0_writeRow 4 (Option.some Jvm.ClassFile.FieldType.int) [((0 : Nat), (9 : Nat), (12 : Nat), (13 : Nat))] 3 := ⟨q3013, q3014, q137, q3015, by decide +kernel, by decide +kernel, by decide +kernel⟩
theorem m_X0_248 : MV "TrailMarkersLaw" 248 yX5_outputByte cX5_outputByte 2 (Option.some Jvm.ClassFile.FieldType.int) 1 := ⟨q3670, q3671, q3672, q146, q3673, by decide +kernel, by decide +kernel, by decide +kernel⟩
theorem m_X0_245 : MV "TrailMarkersLaw" 245 yX1_outputByte cX1_outputByte 2 (Option.some Jvm.ClassFile.FieldType.int) 1 := ⟨q1383, q1384, q1385, q138, q1386, by decide +kernel, by decide +kernel, by decide +kernel⟩
theorem m_X0_118 : MI "TrailMarkersLaw" 118 yX5_init cX5_init 1 0 := ⟨q3023, q3024, rfl, q146, q3025, by decide +kernel, by decide +kernel, by decide +kernel⟩
theorem m_X0_115 : MIX "TrailMarkersLaw" 115 yX1_init cX1_init 3 [((65 : Nat), (230 : Nat), (233 : Nat), (58 : Nat))] 0 := ⟨q198, q199, rfl, q138, q200, by decide +kernel, by decide +kernel, by decide +kernel⟩
