set_option maxRecDepth 100000
abbrev cL_law : ByteArray := code
def dkwL_law_84 : List UInt8 := [167, 247, 200, 4, 172]
abbrev dktL_law_84 : List UInt8 := dkwL_law_84 ++ []
def dkwL_law_83 : List UInt8 := [172, 21, 5, 154, 0, 15, 45, 3, 47, 21, 6, 133, 148, 153, 0, 5, 3, 172, 167, 0, 3, 132, 4, 6]
abbrev dktL_law_83 : List UInt8 := dkwL_law_83 ++ dktL_law_84
def dkwL_law_82 : List UInt8 := [54, 5, 44, 42, 21, 4, 4, 96, 46, 182, 0, 251, 54, 6, 44, 182, 0, 99, 21, 5, 159, 0, 5, 3]
abbrev dktL_law_82 : List UInt8 := dkwL_law_82 ++ dktL_law_83
def dkwL_law_81 : List UInt8 := [182, 0, 244, 44, 182, 0, 248, 159, 0, 61, 3, 172, 43, 42, 21, 4, 4, 96, 46, 45, 184, 0, 249]
abbrev dktL_law_81 : List UInt8 := dkwL_law_81 ++ dktL_law_82
def dkwL_law_80 : List UInt8 := [182, 0, 236, 44, 182, 0, 239, 159, 0, 85, 3, 172, 43, 182, 0, 240, 44, 182, 0, 243, 167, 0, 72, 43]
abbrev dktL_law_80 : List UInt8 := dkwL_law_80 ++ dktL_law_81
def dkwL_law_79 : List UInt8 := [46, 182, 0, 231, 159, 0, 111, 3, 172, 43, 182, 0, 232, 44, 182, 0, 235, 159, 0, 98, 3, 172, 43]
abbrev dktL_law_79 : List UInt8 := dkwL_law_79 ++ dktL_law_80
def dkwL_law_78 : List UInt8 := [153, 0, 5, 3, 172, 167, 0, 134, 43, 42, 21, 4, 4, 96, 46, 182, 0, 228, 44, 42, 21, 4, 4, 96]
abbrev dktL_law_78 : List UInt8 := dkwL_law_78 ++ dktL_law_79
def dkwL_law_77 : List UInt8 := [182, 0, 99, 21, 5, 159, 0, 5, 3, 172, 21, 5, 154, 0, 15, 45, 3, 47, 21, 6, 133, 148]
abbrev dktL_law_77 : List UInt8 := dkwL_law_77 ++ dktL_law_78
def dkwL_law_76 : List UInt8 := [21, 4, 4, 96, 46, 45, 184, 0, 225, 54, 5, 44, 42, 21, 4, 4, 96, 46, 182, 0, 227, 54, 6, 44]
abbrev dktL_law_76 : List UInt8 := dkwL_law_76 ++ dktL_law_77
def dkwL_law_75 : List UInt8 := [148, 153, 0, 5, 3, 172, 167, 0, 203, 43, 182, 0, 221, 44, 182, 0, 224, 159, 0, 192, 3, 172, 43, 42]
abbrev dktL_law_75 : List UInt8 := dkwL_law_75 ++ dktL_law_76
def dkwL_law_74 : List UInt8 := [54, 6, 44, 182, 0, 99, 21, 5, 159, 0, 5, 3, 172, 21, 5, 154, 0, 15, 45, 3, 47, 21, 6, 133]
abbrev dktL_law_74 : List UInt8 := dkwL_law_74 ++ dktL_law_75
def dkwL_law_73 : List UInt8 := [172, 43, 42, 21, 4, 4, 96, 46, 45, 184, 0, 218, 54, 5, 44, 42, 21, 4, 4, 96, 46, 182, 0, 220]
abbrev dktL_law_73 : List UInt8 := dkwL_law_73 ++ dktL_law_74
def dkwL_law_72 : List UInt8 := [21, 6, 133, 148, 153, 0, 5, 3, 172, 167, 1, 16, 43, 182, 0, 214, 44, 182, 0, 217, 159, 1, 5, 3]
abbrev dktL_law_72 : List UInt8 := dkwL_law_72 ++ dktL_law_73
def dkwL_law_71 : List UInt8 := [182, 0, 213, 54, 6, 44, 182, 0, 99, 21, 5, 159, 0, 5, 3, 172, 21, 5, 154, 0, 15, 45, 3, 47]
abbrev dktL_law_71 : List UInt8 := dkwL_law_71 ++ dktL_law_72
def dkwL_law_70 : List UInt8 := [167, 1, 72, 43, 42, 21, 4, 4, 96, 46, 45, 184, 0, 211, 54, 5, 44, 42, 21, 4, 4, 96, 46]
abbrev dktL_law_70 : List UInt8 := dkwL_law_70 ++ dktL_law_71
def dkwL_law_69 : List UInt8 := [21, 5, 159, 0, 5, 3, 172, 21, 5, 154, 0, 15, 45, 3, 47, 21, 6, 133, 148, 153, 0, 5, 3, 172]
abbrev dktL_law_69 : List UInt8 := dkwL_law_69 ++ dktL_law_70
def dkwL_law_68 : List UInt8 := [153, 0, 7, 4, 167, 0, 4, 3, 42, 21, 4, 5, 96, 46, 182, 0, 210, 54, 6, 44, 182, 0, 99]
abbrev dktL_law_68 : List UInt8 := dkwL_law_68 ++ dktL_law_69
def dkwL_law_67 : List UInt8 := [167, 0, 4, 3, 42, 21, 4, 5, 96, 46, 45, 184, 0, 208, 54, 5, 44, 42, 21, 4, 4, 96, 46]
abbrev dktL_law_67 : List UInt8 := dkwL_law_67 ++ dktL_law_68
def dkwL_law_66 : List UInt8 := [21, 6, 133, 148, 153, 0, 5, 3, 172, 167, 1, 156, 43, 42, 21, 4, 4, 96, 46, 153, 0, 7, 4]
abbrev dktL_law_66 : List UInt8 := dkwL_law_66 ++ dktL_law_67
def dkwL_law_65 : List UInt8 := [182, 0, 207, 54, 6, 44, 182, 0, 99, 21, 5, 159, 0, 5, 3, 172, 21, 5, 154, 0, 15, 45, 3, 47]
abbrev dktL_law_65 : List UInt8 := dkwL_law_65 ++ dktL_law_66
def dkwL_law_64 : List UInt8 := [167, 1, 212, 43, 42, 21, 4, 4, 96, 46, 45, 184, 0, 205, 54, 5, 44, 42, 21, 4, 4, 96, 46]
abbrev dktL_law_64 : List UInt8 := dkwL_law_64 ++ dktL_law_65
def dkwL_law_63 : List UInt8 := [159, 0, 5, 3, 172, 21, 5, 154, 0, 15, 45, 3, 47, 21, 6, 133, 148, 153, 0, 5, 3, 172]
abbrev dktL_law_63 : List UInt8 := dkwL_law_63 ++ dktL_law_64
def dkwL_law_62 : List UInt8 := [184, 0, 202, 54, 5, 44, 42, 21, 4, 4, 96, 46, 182, 0, 204, 54, 6, 44, 182, 0, 99, 21, 5]
abbrev dktL_law_62 : List UInt8 := dkwL_law_62 ++ dktL_law_63
def dkwL_law_61 : List UInt8 := [153, 0, 7, 4, 167, 0, 4, 3, 182, 0, 201, 159, 2, 14, 3, 172, 43, 42, 21, 4, 4, 96, 46, 45]
abbrev dktL_law_61 : List UInt8 := dkwL_law_61 ++ dktL_law_62
def dkwL_law_60 : List UInt8 := [21, 4, 4, 96, 46, 153, 0, 7, 4, 167, 0, 4, 3, 182, 0, 197, 44, 42, 21, 4, 4, 96, 46]
abbrev dktL_law_60 : List UInt8 := dkwL_law_60 ++ dktL_law_61
def dkwL_law_59 : List UInt8 := [172, 21, 5, 154, 0, 15, 45, 3, 47, 21, 6, 133, 148, 153, 0, 5, 3, 172, 167, 2, 53, 43, 42]
abbrev dktL_law_59 : List UInt8 := dkwL_law_59 ++ dktL_law_60
def dkwL_law_58 : List UInt8 := [54, 5, 44, 42, 21, 4, 4, 96, 46, 182, 0, 196, 54, 6, 44, 182, 0, 99, 21, 5, 159, 0, 5, 3]
abbrev dktL_law_58 : List UInt8 := dkwL_law_58 ++ dktL_law_59
def dkwL_law_57 : List UInt8 := [21, 6, 133, 148, 153, 0, 5, 3, 172, 167, 2, 109, 43, 42, 21, 4, 4, 96, 46, 45, 184, 0, 194]
abbrev dktL_law_57 : List UInt8 := dkwL_law_57 ++ dktL_law_58
def dkwL_law_56 : List UInt8 := [182, 0, 193, 54, 6, 44, 182, 0, 99, 21, 5, 159, 0, 5, 3, 172, 21, 5, 154, 0, 15, 45, 3, 47]
abbrev dktL_law_56 : List UInt8 := dkwL_law_56 ++ dktL_law_57
def dkwL_law_55 : List UInt8 := [167, 2, 165, 43, 42, 21, 4, 4, 96, 46, 45, 184, 0, 191, 54, 5, 44, 42, 21, 4, 4, 96, 46]
abbrev dktL_law_55 : List UInt8 := dkwL_law_55 ++ dktL_law_56
def dkwL_law_54 : List UInt8 := [21, 5, 159, 0, 5, 3, 172, 21, 5, 154, 0, 15, 45, 3, 47, 21, 6, 133, 148, 153, 0, 5, 3, 172]
abbrev dktL_law_54 : List UInt8 := dkwL_law_54 ++ dktL_law_55
def dkwL_law_53 : List UInt8 := [4, 96, 46, 42, 21, 4, 5, 96, 46, 42, 21, 4, 6, 96, 46, 182, 0, 190, 54, 6, 44, 182, 0, 99]
abbrev dktL_law_53 : List UInt8 := dkwL_law_53 ++ dktL_law_54
def dkwL_law_52 : List UInt8 := [96, 46, 42, 21, 4, 5, 96, 46, 42, 21, 4, 6, 96, 46, 45, 184, 0, 187, 54, 5, 44, 42, 21, 4]
abbrev dktL_law_52 : List UInt8 := dkwL_law_52 ++ dktL_law_53
def dkwL_law_51 : List UInt8 := [24, 5, 151, 153, 0, 11, 24, 7, 24, 7, 151, 154, 0, 5, 3, 172, 167, 2, 245, 43, 42, 21, 4, 4]
abbrev dktL_law_51 : List UInt8 := dkwL_law_51 ++ dktL_law_52
def dkwL_law_50 : List UInt8 := [43, 182, 0, 182, 141, 57, 5, 44, 182, 0, 186, 141, 57, 7, 24, 5, 24, 7, 151, 153, 0, 21, 24, 5]
abbrev dktL_law_50 : List UInt8 := dkwL_law_50 ++ dktL_law_51
def dkwL_law_49 : List UInt8 := [153, 0, 21, 24, 5, 24, 5, 151, 153, 0, 11, 24, 7, 24, 7, 151, 154, 0, 5, 3, 172, 167, 3, 32]
abbrev dktL_law_49 : List UInt8 := dkwL_law_49 ++ dktL_law_50
def dkwL_law_48 : List UInt8 := [159, 3, 75, 3, 172, 43, 182, 0, 177, 57, 5, 44, 182, 0, 181, 57, 7, 24, 5, 24, 7, 151]
abbrev dktL_law_48 : List UInt8 := dkwL_law_48 ++ dktL_law_49
def dkwL_law_47 : List UInt8 := [167, 3, 99, 43, 182, 0, 169, 44, 182, 0, 172, 159, 3, 88, 3, 172, 43, 182, 0, 173, 44, 182, 0, 176]
abbrev dktL_law_47 : List UInt8 := dkwL_law_47 ++ dktL_law_48
def dkwL_law_46 : List UInt8 := [21, 5, 159, 0, 5, 3, 172, 21, 5, 154, 0, 15, 45, 3, 47, 21, 6, 133, 148, 153, 0, 5, 3, 172]
abbrev dktL_law_46 : List UInt8 := dkwL_law_46 ++ dktL_law_47
def dkwL_law_45 : List UInt8 := [46, 45, 184, 0, 166, 54, 5, 44, 42, 21, 4, 4, 96, 46, 182, 0, 168, 54, 6, 44, 182, 0, 99]
abbrev dktL_law_45 : List UInt8 := dkwL_law_45 ++ dktL_law_46
def dkwL_law_44 : List UInt8 := [154, 0, 15, 45, 3, 47, 21, 6, 133, 148, 153, 0, 5, 3, 172, 167, 3, 155, 43, 42, 21, 4, 4, 96]
abbrev dktL_law_44 : List UInt8 := dkwL_law_44 ++ dktL_law_45
def dkwL_law_43 : List UInt8 := [21, 4, 4, 96, 46, 182, 0, 165, 54, 6, 44, 182, 0, 99, 21, 5, 159, 0, 5, 3, 172, 21, 5]
abbrev dktL_law_43 : List UInt8 := dkwL_law_43 ++ dktL_law_44
def dkwL_law_42 : List UInt8 := [182, 0, 162, 159, 3, 213, 3, 172, 43, 42, 21, 4, 4, 96, 46, 45, 184, 0, 163, 54, 5, 44, 42]
abbrev dktL_law_42 : List UInt8 := dkwL_law_42 ++ dktL_law_43
def dkwL_law_41 : List UInt8 := [21, 5, 154, 0, 14, 45, 3, 47, 22, 6, 148, 153, 0, 5, 3, 172, 167, 3, 224, 43, 182, 0, 159, 44]
abbrev dktL_law_41 : List UInt8 := dkwL_law_41 ++ dktL_law_42
def dkwL_law_40 : List UInt8 := [153, 0, 7, 4, 167, 0, 4, 3, 182, 0, 158, 55, 6, 44, 182, 0, 99, 21, 5, 159, 0, 5, 3, 172]
abbrev dktL_law_40 : List UInt8 := dkwL_law_40 ++ dktL_law_41
def dkwL_law_39 : List UInt8 := [96, 46, 153, 0, 7, 4, 167, 0, 4, 3, 42, 21, 4, 5, 96, 46, 42, 21, 4, 6, 96, 46]
abbrev dktL_law_39 : List UInt8 := dkwL_law_39 ++ dktL_law_40
def dkwL_law_38 : List UInt8 := [21, 4, 6, 96, 46, 153, 0, 7, 4, 167, 0, 4, 3, 45, 184, 0, 155, 54, 5, 44, 42, 21, 4, 4]
abbrev dktL_law_38 : List UInt8 := dkwL_law_38 ++ dktL_law_39
def dkwL_law_37 : List UInt8 := [3, 172, 43, 42, 21, 4, 4, 96, 46, 153, 0, 7, 4, 167, 0, 4, 3, 42, 21, 4, 5, 96, 46, 42]
abbrev dktL_law_37 : List UInt8 := dkwL_law_37 ++ dktL_law_38
def dkwL_law_36 : List UInt8 := [182, 0, 150, 44, 42, 21, 4, 4, 96, 46, 153, 0, 7, 4, 167, 0, 4, 3, 182, 0, 154, 159, 4, 81]
abbrev dktL_law_36 : List UInt8 := dkwL_law_36 ++ dktL_law_37
def dkwL_law_35 : List UInt8 := [182, 0, 149, 148, 153, 4, 122, 3, 172, 43, 42, 21, 4, 4, 96, 46, 153, 0, 7, 4, 167, 0, 4, 3]
abbrev dktL_law_35 : List UInt8 := dkwL_law_35 ++ dktL_law_36
def dkwL_law_34 : List UInt8 := [4, 167, 0, 4, 3, 182, 0, 145, 44, 42, 21, 4, 4, 96, 46, 153, 0, 7, 4, 167, 0, 4, 3]
abbrev dktL_law_34 : List UInt8 := dkwL_law_34 ++ dktL_law_35
def dkwL_law_33 : List UInt8 := [3, 47, 21, 6, 133, 148, 153, 0, 5, 3, 172, 167, 4, 162, 43, 42, 21, 4, 4, 96, 46, 153, 0, 7]
abbrev dktL_law_33 : List UInt8 := dkwL_law_33 ++ dktL_law_34
def dkwL_law_32 : List UInt8 := [96, 46, 182, 0, 144, 54, 6, 44, 182, 0, 99, 21, 5, 159, 0, 5, 3, 172, 21, 5, 154, 0, 15, 45]
abbrev dktL_law_32 : List UInt8 := dkwL_law_32 ++ dktL_law_33
def dkwL_law_31 : List UInt8 := [46, 42, 21, 4, 5, 96, 46, 45, 184, 0, 142, 54, 5, 44, 42, 21, 4, 4, 96, 46, 42, 21, 4, 5]
abbrev dktL_law_31 : List UInt8 := dkwL_law_31 ++ dktL_law_32
def dkwL_law_30 : List UInt8 := [154, 0, 15, 45, 3, 47, 21, 6, 133, 148, 153, 0, 5, 3, 172, 167, 4, 230, 43, 42, 21, 4, 4, 96]
abbrev dktL_law_30 : List UInt8 := dkwL_law_30 ++ dktL_law_31
def dkwL_law_29 : List UInt8 := [21, 4, 5, 96, 46, 182, 0, 141, 54, 6, 44, 182, 0, 99, 21, 5, 159, 0, 5, 3, 172, 21, 5]
abbrev dktL_law_29 : List UInt8 := dkwL_law_29 ++ dktL_law_30
def dkwL_law_28 : List UInt8 := [96, 46, 45, 184, 0, 138, 54, 5, 44, 42, 21, 4, 4, 96, 46, 153, 0, 7, 4, 167, 0, 4, 3, 42]
abbrev dktL_law_28 : List UInt8 := dkwL_law_28 ++ dktL_law_29
def dkwL_law_27 : List UInt8 := [159, 5, 60, 3, 172, 43, 42, 21, 4, 4, 96, 46, 153, 0, 7, 4, 167, 0, 4, 3, 42, 21, 4, 5]
abbrev dktL_law_27 : List UInt8 := dkwL_law_27 ++ dktL_law_28
def dkwL_law_26 : List UInt8 := [42, 21, 4, 4, 96, 46, 182, 0, 133, 159, 5, 73, 3, 172, 43, 182, 0, 134, 44, 182, 0, 137]
abbrev dktL_law_26 : List UInt8 := dkwL_law_26 ++ dktL_law_27
def dkwL_law_25 : List UInt8 := [21, 4, 4, 96, 46, 182, 0, 129, 159, 5, 98, 3, 172, 43, 42, 21, 4, 4, 96, 46, 182, 0, 130, 44]
abbrev dktL_law_25 : List UInt8 := dkwL_law_25 ++ dktL_law_26
def dkwL_law_24 : List UInt8 := [21, 6, 133, 148, 153, 0, 5, 3, 172, 167, 5, 121, 43, 42, 21, 4, 4, 96, 46, 182, 0, 126, 44, 42]
abbrev dktL_law_24 : List UInt8 := dkwL_law_24 ++ dktL_law_25
def dkwL_law_23 : List UInt8 := [182, 0, 125, 54, 6, 44, 182, 0, 99, 21, 5, 159, 0, 5, 3, 172, 21, 5, 154, 0, 15, 45, 3, 47]
abbrev dktL_law_23 : List UInt8 := dkwL_law_23 ++ dktL_law_24
def dkwL_law_22 : List UInt8 := [167, 5, 177, 43, 42, 21, 4, 4, 96, 46, 45, 184, 0, 123, 54, 5, 44, 42, 21, 4, 4, 96, 46]
abbrev dktL_law_22 : List UInt8 := dkwL_law_22 ++ dktL_law_23
def dkwL_law_21 : List UInt8 := [21, 5, 159, 0, 5, 3, 172, 21, 5, 154, 0, 15, 45, 3, 47, 21, 6, 133, 148, 153, 0, 5, 3, 172]
abbrev dktL_law_21 : List UInt8 := dkwL_law_21 ++ dktL_law_22
def dkwL_law_20 : List UInt8 := [46, 45, 184, 0, 120, 54, 5, 44, 42, 21, 4, 4, 96, 46, 182, 0, 122, 54, 6, 44, 182, 0, 99]
abbrev dktL_law_20 : List UInt8 := dkwL_law_20 ++ dktL_law_21
def dkwL_law_19 : List UInt8 := [154, 0, 15, 45, 3, 47, 21, 6, 133, 148, 153, 0, 5, 3, 172, 167, 5, 233, 43, 42, 21, 4, 4, 96]
abbrev dktL_law_19 : List UInt8 := dkwL_law_19 ++ dktL_law_20
def dkwL_law_18 : List UInt8 := [21, 4, 4, 96, 46, 182, 0, 119, 54, 6, 44, 182, 0, 99, 21, 5, 159, 0, 5, 3, 172, 21, 5]
abbrev dktL_law_18 : List UInt8 := dkwL_law_18 ++ dktL_law_19
def dkwL_law_17 : List UInt8 := [153, 0, 5, 3, 172, 167, 6, 33, 43, 42, 21, 4, 4, 96, 46, 45, 184, 0, 117, 54, 5, 44, 42]
abbrev dktL_law_17 : List UInt8 := dkwL_law_17 ++ dktL_law_18
def dkwL_law_16 : List UInt8 := [182, 0, 99, 21, 5, 159, 0, 5, 3, 172, 21, 5, 154, 0, 15, 45, 3, 47, 21, 6, 133, 148]
abbrev dktL_law_16 : List UInt8 := dkwL_law_16 ++ dktL_law_17
def dkwL_law_15 : List UInt8 := [184, 0, 114, 54, 5, 44, 42, 21, 4, 4, 96, 46, 42, 21, 4, 5, 96, 46, 182, 0, 116, 54, 6, 44]
abbrev dktL_law_15 : List UInt8 := dkwL_law_15 ++ dktL_law_16
def dkwL_law_14 : List UInt8 := [153, 0, 5, 3, 172, 167, 6, 101, 43, 42, 21, 4, 4, 96, 46, 42, 21, 4, 5, 96, 46, 45]
abbrev dktL_law_14 : List UInt8 := dkwL_law_14 ++ dktL_law_15
def dkwL_law_13 : List UInt8 := [182, 0, 99, 21, 5, 159, 0, 5, 3, 172, 21, 5, 154, 0, 15, 45, 3, 47, 21, 6, 133, 148]
abbrev dktL_law_13 : List UInt8 := dkwL_law_13 ++ dktL_law_14
def dkwL_law_12 : List UInt8 := [184, 0, 110, 54, 5, 44, 42, 21, 4, 4, 96, 46, 42, 21, 4, 5, 96, 46, 182, 0, 113, 54, 6, 44]
abbrev dktL_law_12 : List UInt8 := dkwL_law_12 ++ dktL_law_13
def dkwL_law_11 : List UInt8 := [153, 0, 5, 3, 172, 167, 6, 169, 43, 42, 21, 4, 4, 96, 46, 42, 21, 4, 5, 96, 46, 45]
abbrev dktL_law_11 : List UInt8 := dkwL_law_11 ++ dktL_law_12
def dkwL_law_10 : List UInt8 := [182, 0, 99, 21, 5, 159, 0, 5, 3, 172, 21, 5, 154, 0, 15, 45, 3, 47, 21, 6, 133, 148]
abbrev dktL_law_10 : List UInt8 := dkwL_law_10 ++ dktL_law_11
def dkwL_law_9 : List UInt8 := [21, 4, 4, 96, 46, 45, 184, 0, 107, 54, 5, 44, 42, 21, 4, 4, 96, 46, 182, 0, 109, 54, 6, 44]
abbrev dktL_law_9 : List UInt8 := dkwL_law_9 ++ dktL_law_10
def dkwL_law_8 : List UInt8 := [148, 153, 0, 5, 3, 172, 167, 6, 238, 43, 182, 0, 103, 44, 182, 0, 106, 159, 6, 227, 3, 172, 43, 42]
abbrev dktL_law_8 : List UInt8 := dkwL_law_8 ++ dktL_law_9
def dkwL_law_7 : List UInt8 := [54, 6, 44, 182, 0, 99, 21, 5, 159, 0, 5, 3, 172, 21, 5, 154, 0, 15, 45, 3, 47, 21, 6, 133]
abbrev dktL_law_7 : List UInt8 := dkwL_law_7 ++ dktL_law_8
def dkwL_law_6 : List UInt8 := [172, 43, 42, 21, 4, 4, 96, 46, 45, 184, 0, 93, 54, 5, 44, 42, 21, 4, 4, 96, 46, 182, 0, 98]
abbrev dktL_law_6 : List UInt8 := dkwL_law_6 ++ dktL_law_7
def dkwL_law_5 : List UInt8 := [21, 4, 6, 96, 46, 42, 21, 4, 7, 96, 46, 42, 21, 4, 8, 96, 46, 182, 0, 92, 159, 7, 40, 3]
abbrev dktL_law_5 : List UInt8 := dkwL_law_5 ++ dktL_law_6
def dkwL_law_4 : List UInt8 := [46, 42, 21, 4, 8, 96, 46, 182, 0, 88, 44, 42, 21, 4, 4, 96, 46, 42, 21, 4, 5, 96, 46, 42]
abbrev dktL_law_4 : List UInt8 := dkwL_law_4 ++ dktL_law_5
def dkwL_law_3 : List UInt8 := [43, 42, 21, 4, 4, 96, 46, 42, 21, 4, 5, 96, 46, 42, 21, 4, 6, 96, 46, 42, 21, 4, 7, 96]
abbrev dktL_law_3 : List UInt8 := dkwL_law_3 ++ dktL_law_4
def dkwL_law_2 : List UInt8 := [170, 0, 0, 0, 0, 0, 8, 36, 0, 0, 0, 0, 0, 0, 0, 41, 0, 0, 0, 184, 0, 0, 1, 1, 0, 0, 1, 57, 0, 0, 1, 70, 0, 0, 1, 126, 0, 0, 1, 194, 0, 0, 2, 6, 0, 0, 2, 62, 0, 0, 2, 118, 0, 0, 2, 174, 0, 0, 2, 199, 0, 0, 2, 224, 0, 0, 2, 237, 0, 0, 3, 65, 0, 0, 3, 133, 0, 0, 3, 175, 0, 0, 3, 216, 0, 0, 4, 71, 0, 0, 4, 84, 0, 0, 4, 140, 0, 0, 4, 196, 0, 0, 4, 209, 0, 0, 4, 222, 0, 0, 5, 7, 0, 0, 5, 50, 0, 0, 5, 130, 0, 0, 5, 186, 0, 0, 5, 242, 0, 0, 6, 27, 0, 0, 6, 83, 0, 0, 6, 139, 0, 0, 6, 223, 0, 0, 7, 23, 0, 0, 7, 36, 0, 0, 7, 92, 0, 0, 7, 105, 0, 0, 7, 161, 0, 0, 7, 186, 0, 0, 7, 199, 0, 0, 7, 212, 0, 0, 7, 223, 0, 0, 7, 236]
abbrev dktL_law_2 : List UInt8 := dkwL_law_2 ++ dktL_law_3
def dkwL_law_1 : List UInt8 := [21, 4, 42, 190, 16, 6, 100, 163, 8, 52, 42, 21, 4, 46, 16, 63, 126]
abbrev dktL_law_1 : List UInt8 := dkwL_law_1 ++ dktL_law_2
def dkwL_law_0 : List UInt8 := [187, 0, 8, 89, 183, 0, 84, 76, 187, 0, 85, 89, 183, 0, 87, 77, 4, 188, 11, 78, 3, 54, 4]
abbrev dktL_law_0 : List UInt8 := dkwL_law_0 ++ dktL_law_1
theorem dksL_law_0 : cL_law.data.toList.drop 0 = dktL_law_0 := by decide +kernel
theorem dksL_law_1 : cL_law.data.toList.drop 23 = dktL_law_1 := dk_seg dksL_law_0 23 rfl rfl
theorem dksL_law_2 : cL_law.data.toList.drop 40 = dktL_law_2 := dk_seg dksL_law_1 17 rfl rfl
theorem dksL_law_3 : cL_law.data.toList.drop 224 = dktL_law_3 := dk_seg dksL_law_2 184 rfl rfl
theorem dksL_law_4 : cL_law.data.toList.drop 248 = dktL_law_4 := dk_seg dksL_law_3 24 rfl rfl
theorem dksL_law_5 : cL_law.data.toList.drop 272 = dktL_law_5 := dk_seg dksL_law_4 24 rfl rfl
theorem dksL_law_6 : cL_law.data.toList.drop 296 = dktL_law_6 := dk_seg dksL_law_5 24 rfl rfl
theorem dksL_law_7 : cL_law.data.toList.drop 320 = dktL_law_7 := dk_seg dksL_law_6 24 rfl rfl
theorem dksL_law_8 : cL_law.data.toList.drop 344 = dktL_law_8 := dk_seg dksL_law_7 24 rfl rfl
theorem dksL_law_9 : cL_law.data.toList.drop 368 = dktL_law_9 := dk_seg dksL_law_8 24 rfl rfl
theorem dksL_law_10 : cL_law.data.toList.drop 392 = dktL_law_10 := dk_seg dksL_law_9 24 rfl rfl
theorem dksL_law_11 : cL_law.data.toList.drop 414 = dktL_law_11 := dk_seg dksL_law_10 22 rfl rfl
theorem dksL_law_12 : cL_law.data.toList.drop 436 = dktL_law_12 := dk_seg dksL_law_11 22 rfl rfl
theorem dksL_law_13 : cL_law.data.toList.drop 460 = dktL_law_13 := dk_seg dksL_law_12 24 rfl rfl
theorem dksL_law_14 : cL_law.data.toList.drop 482 = dktL_law_14 := dk_seg dksL_law_13 22 rfl rfl
theorem dksL_law_15 : cL_law.data.toList.drop 504 = dktL_law_15 := dk_seg dksL_law_14 22 rfl rfl
theorem dksL_law_16 : cL_law.data.toList.drop 528 = dktL_law_16 := dk_seg dksL_law_15 24 rfl rfl
theorem dksL_law_17 : cL_law.data.toList.drop 550 = dktL_law_17 := dk_seg dksL_law_16 22 rfl rfl
theorem dksL_law_18 : cL_law.data.toList.drop 573 = dktL_law_18 := dk_seg dksL_law_17 23 rfl rfl
theorem dksL_law_19 : cL_law.data.toList.drop 596 = dktL_law_19 := dk_seg dksL_law_18 23 rfl rfl
theorem dksL_law_20 : cL_law.data.toList.drop 620 = dktL_law_20 := dk_seg dksL_law_19 24 rfl rfl
theorem dksL_law_21 : cL_law.data.toList.drop 643 = dktL_law_21 := dk_seg dksL_law_20 23 rfl rfl
theorem dksL_law_22 : cL_law.data.toList.drop 667 = dktL_law_22 := dk_seg dksL_law_21 24 rfl rfl
theorem dksL_law_23 : cL_law.data.toList.drop 690 = dktL_law_23 := dk_seg dksL_law_22 23 rfl rfl
theorem dksL_law_24 : cL_law.data.toList.drop 714 = dktL_law_24 := dk_seg dksL_law_23 24 rfl rfl
theorem dksL_law_25 : cL_law.data.toList.drop 738 = dktL_law_25 := dk_seg dksL_law_24 24 rfl rfl
theorem dksL_law_26 : cL_law.data.toList.drop 762 = dktL_law_26 := dk_seg dksL_law_25 24 rfl rfl
theorem dksL_law_27 : cL_law.data.toList.drop 784 = dktL_law_27 := dk_seg dksL_law_26 22 rfl rfl
theorem dksL_law_28 : cL_law.data.toList.drop 808 = dktL_law_28 := dk_seg dksL_law_27 24 rfl rfl
theorem dksL_law_29 : cL_law.data.toList.drop 832 = dktL_law_29 := dk_seg dksL_law_28 24 rfl rfl
theorem dksL_law_30 : cL_law.data.toList.drop 855 = dktL_law_30 := dk_seg dksL_law_29 23 rfl rfl
theorem dksL_law_31 : cL_law.data.toList.drop 879 = dktL_law_31 := dk_seg dksL_law_30 24 rfl rfl
theorem dksL_law_32 : cL_law.data.toList.drop 903 = dktL_law_32 := dk_seg dksL_law_31 24 rfl rfl
theorem dksL_law_33 : cL_law.data.toList.drop 927 = dktL_law_33 := dk_seg dksL_law_32 24 rfl rfl
theorem dksL_law_34 : cL_law.data.toList.drop 951 = dktL_law_34 := dk_seg dksL_law_33 24 rfl rfl
theorem dksL_law_35 : cL_law.data.toList.drop 974 = dktL_law_35 := dk_seg dksL_law_34 23 rfl rfl
theorem dksL_law_36 : cL_law.data.toList.drop 998 = dktL_law_36 := dk_seg dksL_law_35 24 rfl rfl
theorem dksL_law_37 : cL_law.data.toList.drop 1022 = dktL_law_37 := dk_seg dksL_law_36 24 rfl rfl
theorem dksL_law_38 : cL_law.data.toList.drop 1046 = dktL_law_38 := dk_seg dksL_law_37 24 rfl rfl
theorem dksL_law_39 : cL_law.data.toList.drop 1070 = dktL_law_39 := dk_seg dksL_law_38 24 rfl rfl
theorem dksL_law_40 : cL_law.data.toList.drop 1092 = dktL_law_40 := dk_seg dksL_law_39 22 rfl rfl
theorem dksL_law_41 : cL_law.data.toList.drop 1116 = dktL_law_41 := dk_seg dksL_law_40 24 rfl rfl
theorem dksL_law_42 : cL_law.data.toList.drop 1140 = dktL_law_42 := dk_seg dksL_law_41 24 rfl rfl
theorem dksL_law_43 : cL_law.data.toList.drop 1163 = dktL_law_43 := dk_seg dksL_law_42 23 rfl rfl
theorem dksL_law_44 : cL_law.data.toList.drop 1186 = dktL_law_44 := dk_seg dksL_law_43 23 rfl rfl
theorem dksL_law_45 : cL_law.data.toList.drop 1210 = dktL_law_45 := dk_seg dksL_law_44 24 rfl rfl
theorem dksL_law_46 : cL_law.data.toList.drop 1233 = dktL_law_46 := dk_seg dksL_law_45 23 rfl rfl
theorem dksL_law_47 : cL_law.data.toList.drop 1257 = dktL_law_47 := dk_seg dksL_law_46 24 rfl rfl
theorem dksL_law_48 : cL_law.data.toList.drop 1281 = dktL_law_48 := dk_seg dksL_law_47 24 rfl rfl
theorem dksL_law_49 : cL_law.data.toList.drop 1303 = dktL_law_49 := dk_seg dksL_law_48 22 rfl rfl
theorem dksL_law_50 : cL_law.data.toList.drop 1327 = dktL_law_50 := dk_seg dksL_law_49 24 rfl rfl
theorem dksL_law_51 : cL_law.data.toList.drop 1351 = dktL_law_51 := dk_seg dksL_law_50 24 rfl rfl
theorem dksL_law_52 : cL_law.data.toList.drop 1375 = dktL_law_52 := dk_seg dksL_law_51 24 rfl rfl
theorem dksL_law_53 : cL_law.data.toList.drop 1399 = dktL_law_53 := dk_seg dksL_law_52 24 rfl rfl
theorem dksL_law_54 : cL_law.data.toList.drop 1423 = dktL_law_54 := dk_seg dksL_law_53 24 rfl rfl
theorem dksL_law_55 : cL_law.data.toList.drop 1447 = dktL_law_55 := dk_seg dksL_law_54 24 rfl rfl
theorem dksL_law_56 : cL_law.data.toList.drop 1470 = dktL_law_56 := dk_seg dksL_law_55 23 rfl rfl
theorem dksL_law_57 : cL_law.data.toList.drop 1494 = dktL_law_57 := dk_seg dksL_law_56 24 rfl rfl
theorem dksL_law_58 : cL_law.data.toList.drop 1517 = dktL_law_58 := dk_seg dksL_law_57 23 rfl rfl
theorem dksL_law_59 : cL_law.data.toList.drop 1541 = dktL_law_59 := dk_seg dksL_law_58 24 rfl rfl
theorem dksL_law_60 : cL_law.data.toList.drop 1564 = dktL_law_60 := dk_seg dksL_law_59 23 rfl rfl
theorem dksL_law_61 : cL_law.data.toList.drop 1587 = dktL_law_61 := dk_seg dksL_law_60 23 rfl rfl
theorem dksL_law_62 : cL_law.data.toList.drop 1611 = dktL_law_62 := dk_seg dksL_law_61 24 rfl rfl
theorem dksL_law_63 : cL_law.data.toList.drop 1634 = dktL_law_63 := dk_seg dksL_law_62 23 rfl rfl
theorem dksL_law_64 : cL_law.data.toList.drop 1656 = dktL_law_64 := dk_seg dksL_law_63 22 rfl rfl
theorem dksL_law_65 : cL_law.data.toList.drop 1679 = dktL_law_65 := dk_seg dksL_law_64 23 rfl rfl
theorem dksL_law_66 : cL_law.data.toList.drop 1703 = dktL_law_66 := dk_seg dksL_law_65 24 rfl rfl
theorem dksL_law_67 : cL_law.data.toList.drop 1726 = dktL_law_67 := dk_seg dksL_law_66 23 rfl rfl
theorem dksL_law_68 : cL_law.data.toList.drop 1749 = dktL_law_68 := dk_seg dksL_law_67 23 rfl rfl
theorem dksL_law_69 : cL_law.data.toList.drop 1772 = dktL_law_69 := dk_seg dksL_law_68 23 rfl rfl
theorem dksL_law_70 : cL_law.data.toList.drop 1796 = dktL_law_70 := dk_seg dksL_law_69 24 rfl rfl
theorem dksL_law_71 : cL_law.data.toList.drop 1819 = dktL_law_71 := dk_seg dksL_law_70 23 rfl rfl
theorem dksL_law_72 : cL_law.data.toList.drop 1843 = dktL_law_72 := dk_seg dksL_law_71 24 rfl rfl
theorem dksL_law_73 : cL_law.data.toList.drop 1867 = dktL_law_73 := dk_seg dksL_law_72 24 rfl rfl
theorem dksL_law_74 : cL_law.data.toList.drop 1891 = dktL_law_74 := dk_seg dksL_law_73 24 rfl rfl
theorem dksL_law_75 : cL_law.data.toList.drop 1915 = dktL_law_75 := dk_seg dksL_law_74 24 rfl rfl
theorem dksL_law_76 : cL_law.data.toList.drop 1939 = dktL_law_76 := dk_seg dksL_law_75 24 rfl rfl
theorem dksL_law_77 : cL_law.data.toList.drop 1963 = dktL_law_77 := dk_seg dksL_law_76 24 rfl rfl
theorem dksL_law_78 : cL_law.data.toList.drop 1985 = dktL_law_78 := dk_seg dksL_law_77 22 rfl rfl
theorem dksL_law_79 : cL_law.data.toList.drop 2009 = dktL_law_79 := dk_seg dksL_law_78 24 rfl rfl
theorem dksL_law_80 : cL_law.data.toList.drop 2032 = dktL_law_80 := dk_seg dksL_law_79 23 rfl rfl
theorem dksL_law_81 : cL_law.data.toList.drop 2056 = dktL_law_81 := dk_seg dksL_law_80 24 rfl rfl
theorem dksL_law_82 : cL_law.data.toList.drop 2079 = dktL_law_82 := dk_seg dksL_law_81 23 rfl rfl
theorem dksL_law_83 : cL_law.data.toList.drop 2103 = dktL_law_83 := dk_seg dksL_law_82 24 rfl rfl
theorem dksL_law_84 : cL_law.data.toList.drop 2127 = dktL_law_84 := dk_seg dksL_law_83 24 rfl rfl
theorem dL_law_0 : decode cL_law 0 = .ok (.new 8, 3) := dk_187 0 8 (dk_at dksL_law_0 0 rfl rfl)
theorem dL_law_3 : decode cL_law 3 = .ok (.dup, 1) := dk_89 (dk_at dksL_law_0 3 rfl rfl)
theorem dL_law_4 : decode cL_law 4 = .ok (.invokespecial 84, 3) := dk_183 0 84 (dk_at dksL_law_0 4 rfl rfl)
theorem dL_law_7 : decode cL_law 7 = .ok (.astore_n 1, 1) := dk_76 (dk_at dksL_law_0 7 rfl rfl)
theorem dL_law_8 : decode cL_law 8 = .ok (.new 85, 3) := dk_187 0 85 (dk_at dksL_law_0 8 rfl rfl)
theorem dL_law_11 : decode cL_law 11 = .ok (.dup, 1) := dk_89 (dk_at dksL_law_0 11 rfl rfl)
theorem dL_law_12 : decode cL_law 12 = .ok (.invokespecial 87, 3) := dk_183 0 87 (dk_at dksL_law_0 12 rfl rfl)
theorem dL_law_15 : decode cL_law 15 = .ok (.astore_n 2, 1) := dk_77 (dk_at dksL_law_0 15 rfl rfl)
theorem dL_law_16 : decode cL_law 16 = .ok (.iconst 1, 1) := dk_4 (dk_at dksL_law_0 16 rfl rfl)
theorem dL_law_17 : decode cL_law 17 = .ok (.newarray .long, 2) := dk_188_11 (dk_at dksL_law_0 17 rfl rfl)
theorem dL_law_19 : decode cL_law 19 = .ok (.astore_n 3, 1) := dk_78 (dk_at dksL_law_0 19 rfl rfl)
theorem dL_law_20 : decode cL_law 20 = .ok (.iconst 0, 1) := dk_3 (dk_at dksL_law_0 20 rfl rfl)
theorem dL_law_21 : decode cL_law 21 = .ok (.istore 4, 2) := dk_54 4 (dk_at dksL_law_0 21 rfl rfl)
theorem dL_law_23 : decode cL_law 23 = .ok (.iload 4, 2) := dk_21 4 (dk_at dksL_law_1 0 rfl rfl)
theorem dL_law_25 : decode cL_law 25 = .ok (.aload_n 0, 1) := dk_42 (dk_at dksL_law_1 2 rfl rfl)
theorem dL_law_26 : decode cL_law 26 = .ok (.arraylength, 1) := dk_190 (dk_at dksL_law_1 3 rfl rfl)
theorem dL_law_27 : decode cL_law 27 = .ok (.bipush 6, 2) := dk_16 6 (dk_at dksL_law_1 4 rfl rfl)
theorem dL_law_29 : decode cL_law 29 = .ok (.isub, 1) := dk_100 (dk_at dksL_law_1 6 rfl rfl)
theorem dL_law_30 : decode cL_law 30 = .ok (.if_icmp .gt 2100, 3) := dk_163 8 52 (dk_at dksL_law_1 7 rfl rfl)
theorem dL_law_33 : decode cL_law 33 = .ok (.aload_n 0, 1) := dk_42 (dk_at dksL_law_1 10 rfl rfl)
theorem dL_law_34 : decode cL_law 34 = .ok (.iload 4, 2) := dk_21 4 (dk_at dksL_law_1 11 rfl rfl)
theorem dL_law_36 : decode cL_law 36 = .ok (.iaload, 1) := dk_46 (dk_at dksL_law_1 13 rfl rfl)
theorem dL_law_37 : decode cL_law 37 = .ok (.bipush 63, 2) := dk_16 63 (dk_at dksL_law_1 14 rfl rfl)
theorem dL_law_39 : decode cL_law 39 = .ok (.iand, 1) := dk_126 (dk_at dksL_law_1 16 rfl rfl)
theorem dL_law_40 : decode cL_law 40 = .ok (.tableswitch 2084 0 41 #[184, 257, 313, 326, 382, 450, 518, 574, 630, 686, 711, 736, 749, 833, 901, 943, 984, 1095, 1108, 1164, 1220, 1233, 1246, 1287, 1330, 1410, 1466, 1522, 1563, 1619, 1675, 1759, 1815, 1828, 1884, 1897, 1953, 1978, 1991, 2004, 2015, 2028], 184) := by decide +kernel
theorem dL_law_224 : decode cL_law 224 = .ok (.aload_n 1, 1) := dk_43 (dk_at dksL_law_3 0 rfl rfl)
theorem dL_law_225 : decode cL_law 225 = .ok (.aload_n 0, 1) := dk_42 (dk_at dksL_law_3 1 rfl rfl)
theorem dL_law_226 : decode cL_law 226 = .ok (.iload 4, 2) := dk_21 4 (dk_at dksL_law_3 2 rfl rfl)
theorem dL_law_228 : decode cL_law 228 = .ok (.iconst 1, 1) := dk_4 (dk_at dksL_law_3 4 rfl rfl)
theorem dL_law_229 : decode cL_law 229 = .ok (.iadd, 1) := dk_96 (dk_at dksL_law_3 5 rfl rfl)
theorem dL_law_230 : decode cL_law 230 = .ok (.iaload, 1) := dk_46 (dk_at dksL_law_3 6 rfl rfl)
theorem dL_law_231 : decode cL_law 231 = .ok (.aload_n 0, 1) := dk_42 (dk_at dksL_law_3 7 rfl rfl)
theorem dL_law_232 : decode cL_law 232 = .ok (.iload 4, 2) := dk_21 4 (dk_at dksL_law_3 8 rfl rfl)
theorem dL_law_234 : decode cL_law 234 = .ok (.iconst 2, 1) := dk_5 (dk_at dksL_law_3 10 rfl rfl)
theorem dL_law_235 : decode cL_law 235 = .ok (.iadd, 1) := dk_96 (dk_at dksL_law_3 11 rfl rfl)
theorem dL_law_236 : decode cL_law 236 = .ok (.iaload, 1) := dk_46 (dk_at dksL_law_3 12 rfl rfl)
theorem dL_law_237 : decode cL_law 237 = .ok (.aload_n 0, 1) := dk_42 (dk_at dksL_law_3 13 rfl rfl)
theorem dL_law_238 : decode cL_law 238 = .ok (.iload 4, 2) := dk_21 4 (dk_at dksL_law_3 14 rfl rfl)
theorem dL_law_240 : decode cL_law 240 = .ok (.iconst 3, 1) := dk_6 (dk_at dksL_law_3 16 rfl rfl)
theorem dL_law_241 : decode cL_law 241 = .ok (.iadd, 1) := dk_96 (dk_at dksL_law_3 17 rfl rfl)
theorem dL_law_242 : decode cL_law 242 = .ok (.iaload, 1) := dk_46 (dk_at dksL_law_3 18 rfl rfl)
theorem dL_law_243 : decode cL_law 243 = .ok (.aload_n 0, 1) := dk_42 (dk_at dksL_law_3 19 rfl rfl)
theorem dL_law_244 : decode cL_law 244 = .ok (.iload 4, 2) := dk_21 4 (dk_at dksL_law_3 20 rfl rfl)
theorem dL_law_246 : decode cL_law 246 = .ok (.iconst 4, 1) := dk_7 (dk_at dksL_law_3 22 rfl rfl)
theorem dL_law_247 : decode cL_law 247 = .ok (.iadd, 1) := dk_96 (dk_at dksL_law_3 23 rfl rfl)
theorem dL_law_248 : decode cL_law 248 = .ok (.iaload, 1) := dk_46 (dk_at dksL_law_4 0 rfl rfl)
theorem dL_law_249 : decode cL_law 249 = .ok (.aload_n 0, 1) := dk_42 (dk_at dksL_law_4 1 rfl rfl)
theorem dL_law_250 : decode cL_law 250 = .ok (.iload 4, 2) := dk_21 4 (dk_at dksL_law_4 2 rfl rfl)
theorem dL_law_252 : decode cL_law 252 = .ok (.iconst 5, 1) := dk_8 (dk_at dksL_law_4 4 rfl rfl)
theorem dL_law_253 : decode cL_law 253 = .ok (.iadd, 1) := dk_96 (dk_at dksL_law_4 5 rfl rfl)
theorem dL_law_254 : decode cL_law 254 = .ok (.iaload, 1) := dk_46 (dk_at dksL_law_4 6 rfl rfl)
theorem dL_law_255 : decode cL_law 255 = .ok (.invokevirtual 88, 3) := dk_182 0 88 (dk_at dksL_law_4 7 rfl rfl)
theorem dL_law_258 : decode cL_law 258 = .ok (.aload_n 2, 1) := dk_44 (dk_at dksL_law_4 10 rfl rfl)
theorem dL_law_259 : decode cL_law 259 = .ok (.aload_n 0, 1) := dk_42 (dk_at dksL_law_4 11 rfl rfl)
theorem dL_law_260 : decode cL_law 260 = .ok (.iload 4, 2) := dk_21 4 (dk_at dksL_law_4 12 rfl rfl)
theorem dL_law_262 : decode cL_law 262 = .ok (.iconst 1, 1) := dk_4 (dk_at dksL_law_4 14 rfl rfl)
theorem dL_law_263 : decode cL_law 263 = .ok (.iadd, 1) := dk_96 (dk_at dksL_law_4 15 rfl rfl)
theorem dL_law_264 : decode cL_law 264 = .ok (.iaload, 1) := dk_46 (dk_at dksL_law_4 16 rfl rfl)
theorem dL_law_265 : decode cL_law 265 = .ok (.aload_n 0, 1) := dk_42 (dk_at dksL_law_4 17 rfl rfl)
theorem dL_law_266 : decode cL_law 266 = .ok (.iload 4, 2) := dk_21 4 (dk_at dksL_law_4 18 rfl rfl)
theorem dL_law_268 : decode cL_law 268 = .ok (.iconst 2, 1) := dk_5 (dk_at dksL_law_4 20 rfl rfl)
theorem dL_law_269 : decode cL_law 269 = .ok (.iadd, 1) := dk_96 (dk_at dksL_law_4 21 rfl rfl)
theorem dL_law_270 : decode cL_law 270 = .ok (.iaload, 1) := dk_46 (dk_at dksL_law_4 22 rfl rfl)
theorem dL_law_271 : decode cL_law 271 = .ok (.aload_n 0, 1) := dk_42 (dk_at dksL_law_4 23 rfl rfl)
theorem dL_law_272 : decode cL_law 272 = .ok (.iload 4, 2) := dk_21 4 (dk_at dksL_law_5 0 rfl rfl)
theorem dL_law_274 : decode cL_law 274 = .ok (.iconst 3, 1) := dk_6 (dk_at dksL_law_5 2 rfl rfl)
theorem dL_law_275 : decode cL_law 275 = .ok (.iadd, 1) := dk_96 (dk_at dksL_law_5 3 rfl rfl)
theorem dL_law_276 : decode cL_law 276 = .ok (.iaload, 1) := dk_46 (dk_at dksL_law_5 4 rfl rfl)
theorem dL_law_277 : decode cL_law 277 = .ok (.aload_n 0, 1) := dk_42 (dk_at dksL_law_5 5 rfl rfl)
theorem dL_law_278 : decode cL_law 278 = .ok (.iload 4, 2) := dk_21 4 (dk_at dksL_law_5 6 rfl rfl)
theorem dL_law_280 : decode cL_law 280 = .ok (.iconst 4, 1) := dk_7 (dk_at dksL_law_5 8 rfl rfl)
theorem dL_law_281 : decode cL_law 281 = .ok (.iadd, 1) := dk_96 (dk_at dksL_law_5 9 rfl rfl)
theorem dL_law_282 : decode cL_law 282 = .ok (.iaload, 1) := dk_46 (dk_at dksL_law_5 10 rfl rfl)
theorem dL_law_283 : decode cL_law 283 = .ok (.aload_n 0, 1) := dk_42 (dk_at dksL_law_5 11 rfl rfl)
theorem dL_law_284 : decode cL_law 284 = .ok (.iload 4, 2) := dk_21 4 (dk_at dksL_law_5 12 rfl rfl)
theorem dL_law_286 : decode cL_law 286 = .ok (.iconst 5, 1) := dk_8 (dk_at dksL_law_5 14 rfl rfl)
theorem dL_law_287 : decode cL_law 287 = .ok (.iadd, 1) := dk_96 (dk_at dksL_law_5 15 rfl rfl)
theorem dL_law_288 : decode cL_law 288 = .ok (.iaload, 1) := dk_46 (dk_at dksL_law_5 16 rfl rfl)
theorem dL_law_289 : decode cL_law 289 = .ok (.invokevirtual 92, 3) := dk_182 0 92 (dk_at dksL_law_5 17 rfl rfl)
theorem dL_law_292 : decode cL_law 292 = .ok (.if_icmp .eq 1832, 3) := dk_159 7 40 (dk_at dksL_law_5 20 rfl rfl)
theorem dL_law_295 : decode cL_law 295 = .ok (.iconst 0, 1) := dk_3 (dk_at dksL_law_5 23 rfl rfl)
theorem dL_law_296 : decode cL_law 296 = .ok (.ireturn, 1) := dk_172 (dk_at dksL_law_6 0 rfl rfl)
theorem dL_law_297 : decode cL_law 297 = .ok (.aload_n 1, 1) := dk_43 (dk_at dksL_law_6 1 rfl rfl)
theorem dL_law_298 : decode cL_law 298 = .ok (.aload_n 0, 1) := dk_42 (dk_at dksL_law_6 2 rfl rfl)
theorem dL_law_299 : decode cL_law 299 = .ok (.iload 4, 2) := dk_21 4 (dk_at dksL_law_6 3 rfl rfl)
theorem dL_law_301 : decode cL_law 301 = .ok (.iconst 1, 1) := dk_4 (dk_at dksL_law_6 5 rfl rfl)
theorem dL_law_302 : decode cL_law 302 = .ok (.iadd, 1) := dk_96 (dk_at dksL_law_6 6 rfl rfl)
theorem dL_law_303 : decode cL_law 303 = .ok (.iaload, 1) := dk_46 (dk_at dksL_law_6 7 rfl rfl)
theorem dL_law_304 : decode cL_law 304 = .ok (.aload_n 3, 1) := dk_45 (dk_at dksL_law_6 8 rfl rfl)
theorem dL_law_305 : decode cL_law 305 = .ok (.invokestatic 93, 3) := dk_184 0 93 (dk_at dksL_law_6 9 rfl rfl)
theorem dL_law_308 : decode cL_law 308 = .ok (.istore 5, 2) := dk_54 5 (dk_at dksL_law_6 12 rfl rfl)
theorem dL_law_310 : decode cL_law 310 = .ok (.aload_n 2, 1) := dk_44 (dk_at dksL_law_6 14 rfl rfl)
theorem dL_law_311 : decode cL_law 311 = .ok (.aload_n 0, 1) := dk_42 (dk_at dksL_law_6 15 rfl rfl)
theorem dL_law_312 : decode cL_law 312 = .ok (.iload 4, 2) := dk_21 4 (dk_at dksL_law_6 16 rfl rfl)
theorem dL_law_314 : decode cL_law 314 = .ok (.iconst 1, 1) := dk_4 (dk_at dksL_law_6 18 rfl rfl)
theorem dL_law_315 : decode cL_law 315 = .ok (.iadd, 1) := dk_96 (dk_at dksL_law_6 19 rfl rfl)
theorem dL_law_316 : decode cL_law 316 = .ok (.iaload, 1) := dk_46 (dk_at dksL_law_6 20 rfl rfl)
theorem dL_law_317 : decode cL_law 317 = .ok (.invokevirtual 98, 3) := dk_182 0 98 (dk_at dksL_law_6 21 rfl rfl)
theorem dL_law_320 : decode cL_law 320 = .ok (.istore 6, 2) := dk_54 6 (dk_at dksL_law_7 0 rfl rfl)
theorem dL_law_322 : decode cL_law 322 = .ok (.aload_n 2, 1) := dk_44 (dk_at dksL_law_7 2 rfl rfl)
theorem dL_law_323 : decode cL_law 323 = .ok (.invokevirtual 99, 3) := dk_182 0 99 (dk_at dksL_law_7 3 rfl rfl)
theorem dL_law_326 : decode cL_law 326 = .ok (.iload 5, 2) := dk_21 5 (dk_at dksL_law_7 6 rfl rfl)
theorem dL_law_328 : decode cL_law 328 = .ok (.if_icmp .eq 5, 3) := dk_159 0 5 (dk_at dksL_law_7 8 rfl rfl)
theorem dL_law_331 : decode cL_law 331 = .ok (.iconst 0, 1) := dk_3 (dk_at dksL_law_7 11 rfl rfl)
theorem dL_law_332 : decode cL_law 332 = .ok (.ireturn, 1) := dk_172 (dk_at dksL_law_7 12 rfl rfl)
theorem dL_law_333 : decode cL_law 333 = .ok (.iload 5, 2) := dk_21 5 (dk_at dksL_law_7 13 rfl rfl)
theorem dL_law_335 : decode cL_law 335 = .ok (.ifCond .ne 15, 3) := dk_154 0 15 (dk_at dksL_law_7 15 rfl rfl)
theorem dL_law_338 : decode cL_law 338 = .ok (.aload_n 3, 1) := dk_45 (dk_at dksL_law_7 18 rfl rfl)
theorem dL_law_339 : decode cL_law 339 = .ok (.iconst 0, 1) := dk_3 (dk_at dksL_law_7 19 rfl rfl)
theorem dL_law_340 : decode cL_law 340 = .ok (.laload, 1) := dk_47 (dk_at dksL_law_7 20 rfl rfl)
theorem dL_law_341 : decode cL_law 341 = .ok (.iload 6, 2) := dk_21 6 (dk_at dksL_law_7 21 rfl rfl)
theorem dL_law_343 : decode cL_law 343 = .ok (.i2l, 1) := dk_133 (dk_at dksL_law_7 23 rfl rfl)
theorem dL_law_344 : decode cL_law 344 = .ok (.lcmp, 1) := dk_148 (dk_at dksL_law_8 0 rfl rfl)
theorem dL_law_345 : decode cL_law 345 = .ok (.ifCond .eq 5, 3) := dk_153 0 5 (dk_at dksL_law_8 1 rfl rfl)
theorem dL_law_348 : decode cL_law 348 = .ok (.iconst 0, 1) := dk_3 (dk_at dksL_law_8 4 rfl rfl)
theorem dL_law_349 : decode cL_law 349 = .ok (.ireturn, 1) := dk_172 (dk_at dksL_law_8 5 rfl rfl)
theorem dL_law_350 : decode cL_law 350 = .ok (.goto 1774, 3) := dk_167 6 238 (dk_at dksL_law_8 6 rfl rfl)
theorem dL_law_353 : decode cL_law 353 = .ok (.aload_n 1, 1) := dk_43 (dk_at dksL_law_8 9 rfl rfl)
theorem dL_law_354 : decode cL_law 354 = .ok (.invokevirtual 103, 3) := dk_182 0 103 (dk_at dksL_law_8 10 rfl rfl)
theorem dL_law_357 : decode cL_law 357 = .ok (.aload_n 2, 1) := dk_44 (dk_at dksL_law_8 13 rfl rfl)
theorem dL_law_358 : decode cL_law 358 = .ok (.invokevirtual 106, 3) := dk_182 0 106 (dk_at dksL_law_8 14 rfl rfl)
theorem dL_law_361 : decode cL_law 361 = .ok (.if_icmp .eq 1763, 3) := dk_159 6 227 (dk_at dksL_law_8 17 rfl rfl)
theorem dL_law_364 : decode cL_law 364 = .ok (.iconst 0, 1) := dk_3 (dk_at dksL_law_8 20 rfl rfl)
theorem dL_law_365 : decode cL_law 365 = .ok (.ireturn, 1) := dk_172 (dk_at dksL_law_8 21 rfl rfl)
theorem dL_law_366 : decode cL_law 366 = .ok (.aload_n 1, 1) := dk_43 (dk_at dksL_law_8 22 rfl rfl)
theorem dL_law_367 : decode cL_law 367 = .ok (.aload_n 0, 1) := dk_42 (dk_at dksL_law_8 23 rfl rfl)
theorem dL_law_368 : decode cL_law 368 = .ok (.iload 4, 2) := dk_21 4 (dk_at dksL_law_9 0 rfl rfl)
theorem dL_law_370 : decode cL_law 370 = .ok (.iconst 1, 1) := dk_4 (dk_at dksL_law_9 2 rfl rfl)
theorem dL_law_371 : decode cL_law 371 = .ok (.iadd, 1) := dk_96 (dk_at dksL_law_9 3 rfl rfl)
theorem dL_law_372 : decode cL_law 372 = .ok (.iaload, 1) := dk_46 (dk_at dksL_law_9 4 rfl rfl)
theorem dL_law_373 : decode cL_law 373 = .ok (.aload_n 3, 1) := dk_45 (dk_at dksL_law_9 5 rfl rfl)
theorem dL_law_374 : decode cL_law 374 = .ok (.invokestatic 107, 3) := dk_184 0 107 (dk_at dksL_law_9 6 rfl rfl)
theorem dL_law_377 : decode cL_law 377 = .ok (.istore 5, 2) := dk_54 5 (dk_at dksL_law_9 9 rfl rfl)
theorem dL_law_379 : decode cL_law 379 = .ok (.aload_n 2, 1) := dk_44 (dk_at dksL_law_9 11 rfl rfl)
theorem dL_law_380 : decode cL_law 380 = .ok (.aload_n 0, 1) := dk_42 (dk_at dksL_law_9 12 rfl rfl)
theorem dL_law_381 : decode cL_law 381 = .ok (.iload 4, 2) := dk_21 4 (dk_at dksL_law_9 13 rfl rfl)
theorem dL_law_383 : decode cL_law 383 = .ok (.iconst 1, 1) := dk_4 (dk_at dksL_law_9 15 rfl rfl)
theorem dL_law_384 : decode cL_law 384 = .ok (.iadd, 1) := dk_96 (dk_at dksL_law_9 16 rfl rfl)
theorem dL_law_385 : decode cL_law 385 = .ok (.iaload, 1) := dk_46 (dk_at dksL_law_9 17 rfl rfl)
theorem dL_law_386 : decode cL_law 386 = .ok (.invokevirtual 109, 3) := dk_182 0 109 (dk_at dksL_law_9 18 rfl rfl)
theorem dL_law_389 : decode cL_law 389 = .ok (.istore 6, 2) := dk_54 6 (dk_at dksL_law_9 21 rfl rfl)
theorem dL_law_391 : decode cL_law 391 = .ok (.aload_n 2, 1) := dk_44 (dk_at dksL_law_9 23 rfl rfl)
theorem dL_law_392 : decode cL_law 392 = .ok (.invokevirtual 99, 3) := dk_182 0 99 (dk_at dksL_law_10 0 rfl rfl)
theorem dL_law_395 : decode cL_law 395 = .ok (.iload 5, 2) := dk_21 5 (dk_at dksL_law_10 3 rfl rfl)
theorem dL_law_397 : decode cL_law 397 = .ok (.if_icmp .eq 5, 3) := dk_159 0 5 (dk_at dksL_law_10 5 rfl rfl)
theorem dL_law_400 : decode cL_law 400 = .ok (.iconst 0, 1) := dk_3 (dk_at dksL_law_10 8 rfl rfl)
theorem dL_law_401 : decode cL_law 401 = .ok (.ireturn, 1) := dk_172 (dk_at dksL_law_10 9 rfl rfl)
theorem dL_law_402 : decode cL_law 402 = .ok (.iload 5, 2) := dk_21 5 (dk_at dksL_law_10 10 rfl rfl)
theorem dL_law_404 : decode cL_law 404 = .ok (.ifCond .ne 15, 3) := dk_154 0 15 (dk_at dksL_law_10 12 rfl rfl)
theorem dL_law_407 : decode cL_law 407 = .ok (.aload_n 3, 1) := dk_45 (dk_at dksL_law_10 15 rfl rfl)
theorem dL_law_408 : decode cL_law 408 = .ok (.iconst 0, 1) := dk_3 (dk_at dksL_law_10 16 rfl rfl)
theorem dL_law_409 : decode cL_law 409 = .ok (.laload, 1) := dk_47 (dk_at dksL_law_10 17 rfl rfl)
theorem dL_law_410 : decode cL_law 410 = .ok (.iload 6, 2) := dk_21 6 (dk_at dksL_law_10 18 rfl rfl)
theorem dL_law_412 : decode cL_law 412 = .ok (.i2l, 1) := dk_133 (dk_at dksL_law_10 20 rfl rfl)
theorem dL_law_413 : decode cL_law 413 = .ok (.lcmp, 1) := dk_148 (dk_at dksL_law_10 21 rfl rfl)
theorem dL_law_414 : decode cL_law 414 = .ok (.ifCond .eq 5, 3) := dk_153 0 5 (dk_at dksL_law_11 0 rfl rfl)
theorem dL_law_417 : decode cL_law 417 = .ok (.iconst 0, 1) := dk_3 (dk_at dksL_law_11 3 rfl rfl)
theorem dL_law_418 : decode cL_law 418 = .ok (.ireturn, 1) := dk_172 (dk_at dksL_law_11 4 rfl rfl)
theorem dL_law_419 : decode cL_law 419 = .ok (.goto 1705, 3) := dk_167 6 169 (dk_at dksL_law_11 5 rfl rfl)
theorem dL_law_422 : decode cL_law 422 = .ok (.aload_n 1, 1) := dk_43 (dk_at dksL_law_11 8 rfl rfl)
theorem dL_law_423 : decode cL_law 423 = .ok (.aload_n 0, 1) := dk_42 (dk_at dksL_law_11 9 rfl rfl)
theorem dL_law_424 : decode cL_law 424 = .ok (.iload 4, 2) := dk_21 4 (dk_at dksL_law_11 10 rfl rfl)
theorem dL_law_426 : decode cL_law 426 = .ok (.iconst 1, 1) := dk_4 (dk_at dksL_law_11 12 rfl rfl)
theorem dL_law_427 : decode cL_law 427 = .ok (.iadd, 1) := dk_96 (dk_at dksL_law_11 13 rfl rfl)
theorem dL_law_428 : decode cL_law 428 = .ok (.iaload, 1) := dk_46 (dk_at dksL_law_11 14 rfl rfl)
theorem dL_law_429 : decode cL_law 429 = .ok (.aload_n 0, 1) := dk_42 (dk_at dksL_law_11 15 rfl rfl)
theorem dL_law_430 : decode cL_law 430 = .ok (.iload 4, 2) := dk_21 4 (dk_at dksL_law_11 16 rfl rfl)
theorem dL_law_432 : decode cL_law 432 = .ok (.iconst 2, 1) := dk_5 (dk_at dksL_law_11 18 rfl rfl)
theorem dL_law_433 : decode cL_law 433 = .ok (.iadd, 1) := dk_96 (dk_at dksL_law_11 19 rfl rfl)
theorem dL_law_434 : decode cL_law 434 = .ok (.iaload, 1) := dk_46 (dk_at dksL_law_11 20 rfl rfl)
theorem dL_law_435 : decode cL_law 435 = .ok (.aload_n 3, 1) := dk_45 (dk_at dksL_law_11 21 rfl rfl)
theorem dL_law_436 : decode cL_law 436 = .ok (.invokestatic 110, 3) := dk_184 0 110 (dk_at dksL_law_12 0 rfl rfl)
theorem dL_law_439 : decode cL_law 439 = .ok (.istore 5, 2) := dk_54 5 (dk_at dksL_law_12 3 rfl rfl)
theorem dL_law_441 : decode cL_law 441 = .ok (.aload_n 2, 1) := dk_44 (dk_at dksL_law_12 5 rfl rfl)
theorem dL_law_442 : decode cL_law 442 = .ok (.aload_n 0, 1) := dk_42 (dk_at dksL_law_12 6 rfl rfl)
theorem dL_law_443 : decode cL_law 443 = .ok (.iload 4, 2) := dk_21 4 (dk_at dksL_law_12 7 rfl rfl)
theorem dL_law_445 : decode cL_law 445 = .ok (.iconst 1, 1) := dk_4 (dk_at dksL_law_12 9 rfl rfl)
theorem dL_law_446 : decode cL_law 446 = .ok (.iadd, 1) := dk_96 (dk_at dksL_law_12 10 rfl rfl)
theorem dL_law_447 : decode cL_law 447 = .ok (.iaload, 1) := dk_46 (dk_at dksL_law_12 11 rfl rfl)
theorem dL_law_448 : decode cL_law 448 = .ok (.aload_n 0, 1) := dk_42 (dk_at dksL_law_12 12 rfl rfl)
theorem dL_law_449 : decode cL_law 449 = .ok (.iload 4, 2) := dk_21 4 (dk_at dksL_law_12 13 rfl rfl)
theorem dL_law_451 : decode cL_law 451 = .ok (.iconst 2, 1) := dk_5 (dk_at dksL_law_12 15 rfl rfl)
theorem dL_law_452 : decode cL_law 452 = .ok (.iadd, 1) := dk_96 (dk_at dksL_law_12 16 rfl rfl)
theorem dL_law_453 : decode cL_law 453 = .ok (.iaload, 1) := dk_46 (dk_at dksL_law_12 17 rfl rfl)
theorem dL_law_454 : decode cL_law 454 = .ok (.invokevirtual 113, 3) := dk_182 0 113 (dk_at dksL_law_12 18 rfl rfl)
theorem dL_law_457 : decode cL_law 457 = .ok (.istore 6, 2) := dk_54 6 (dk_at dksL_law_12 21 rfl rfl)
theorem dL_law_459 : decode cL_law 459 = .ok (.aload_n 2, 1) := dk_44 (dk_at dksL_law_12 23 rfl rfl)
theorem dL_law_460 : decode cL_law 460 = .ok (.invokevirtual 99, 3) := dk_182 0 99 (dk_at dksL_law_13 0 rfl rfl)
theorem dL_law_463 : decode cL_law 463 = .ok (.iload 5, 2) := dk_21 5 (dk_at dksL_law_13 3 rfl rfl)
theorem dL_law_465 : decode cL_law 465 = .ok (.if_icmp .eq 5, 3) := dk_159 0 5 (dk_at dksL_law_13 5 rfl rfl)
theorem dL_law_468 : decode cL_law 468 = .ok (.iconst 0, 1) := dk_3 (dk_at dksL_law_13 8 rfl rfl)
theorem dL_law_469 : decode cL_law 469 = .ok (.ireturn, 1) := dk_172 (dk_at dksL_law_13 9 rfl rfl)
theorem dL_law_470 : decode cL_law 470 = .ok (.iload 5, 2) := dk_21 5 (dk_at dksL_law_13 10 rfl rfl)
theorem dL_law_472 : decode cL_law 472 = .ok (.ifCond .ne 15, 3) := dk_154 0 15 (dk_at dksL_law_13 12 rfl rfl)
theorem dL_law_475 : decode cL_law 475 = .ok (.aload_n 3, 1) := dk_45 (dk_at dksL_law_13 15 rfl rfl)
theorem dL_law_476 : decode cL_law 476 = .ok (.iconst 0, 1) := dk_3 (dk_at dksL_law_13 16 rfl rfl)
theorem dL_law_477 : decode cL_law 477 = .ok (.laload, 1) := dk_47 (dk_at dksL_law_13 17 rfl rfl)
theorem dL_law_478 : decode cL_law 478 = .ok (.iload 6, 2) := dk_21 6 (dk_at dksL_law_13 18 rfl rfl)
theorem dL_law_480 : decode cL_law 480 = .ok (.i2l, 1) := dk_133 (dk_at dksL_law_13 20 rfl rfl)
theorem dL_law_481 : decode cL_law 481 = .ok (.lcmp, 1) := dk_148 (dk_at dksL_law_13 21 rfl rfl)
theorem dL_law_482 : decode cL_law 482 = .ok (.ifCond .eq 5, 3) := dk_153 0 5 (dk_at dksL_law_14 0 rfl rfl)
theorem dL_law_485 : decode cL_law 485 = .ok (.iconst 0, 1) := dk_3 (dk_at dksL_law_14 3 rfl rfl)
theorem dL_law_486 : decode cL_law 486 = .ok (.ireturn, 1) := dk_172 (dk_at dksL_law_14 4 rfl rfl)
theorem dL_law_487 : decode cL_law 487 = .ok (.goto 1637, 3) := dk_167 6 101 (dk_at dksL_law_14 5 rfl rfl)
theorem dL_law_490 : decode cL_law 490 = .ok (.aload_n 1, 1) := dk_43 (dk_at dksL_law_14 8 rfl rfl)
theorem dL_law_491 : decode cL_law 491 = .ok (.aload_n 0, 1) := dk_42 (dk_at dksL_law_14 9 rfl rfl)
theorem dL_law_492 : decode cL_law 492 = .ok (.iload 4, 2) := dk_21 4 (dk_at dksL_law_14 10 rfl rfl)
theorem dL_law_494 : decode cL_law 494 = .ok (.iconst 1, 1) := dk_4 (dk_at dksL_law_14 12 rfl rfl)
theorem dL_law_495 : decode cL_law 495 = .ok (.iadd, 1) := dk_96 (dk_at dksL_law_14 13 rfl rfl)
theorem dL_law_496 : decode cL_law 496 = .ok (.iaload, 1) := dk_46 (dk_at dksL_law_14 14 rfl rfl)
theorem dL_law_497 : decode cL_law 497 = .ok (.aload_n 0, 1) := dk_42 (dk_at dksL_law_14 15 rfl rfl)
theorem dL_law_498 : decode cL_law 498 = .ok (.iload 4, 2) := dk_21 4 (dk_at dksL_law_14 16 rfl rfl)
theorem dL_law_500 : decode cL_law 500 = .ok (.iconst 2, 1) := dk_5 (dk_at dksL_law_14 18 rfl rfl)
theorem dL_law_501 : decode cL_law 501 = .ok (.iadd, 1) := dk_96 (dk_at dksL_law_14 19 rfl rfl)
theorem dL_law_502 : decode cL_law 502 = .ok (.iaload, 1) := dk_46 (dk_at dksL_law_14 20 rfl rfl)
theorem dL_law_503 : decode cL_law 503 = .ok (.aload_n 3, 1) := dk_45 (dk_at dksL_law_14 21 rfl rfl)
theorem dL_law_504 : decode cL_law 504 = .ok (.invokestatic 114, 3) := dk_184 0 114 (dk_at dksL_law_15 0 rfl rfl)
theorem dL_law_507 : decode cL_law 507 = .ok (.istore 5, 2) := dk_54 5 (dk_at dksL_law_15 3 rfl rfl)
theorem dL_law_509 : decode cL_law 509 = .ok (.aload_n 2, 1) := dk_44 (dk_at dksL_law_15 5 rfl rfl)
theorem dL_law_510 : decode cL_law 510 = .ok (.aload_n 0, 1) := dk_42 (dk_at dksL_law_15 6 rfl rfl)
theorem dL_law_511 : decode cL_law 511 = .ok (.iload 4, 2) := dk_21 4 (dk_at dksL_law_15 7 rfl rfl)
theorem dL_law_513 : decode cL_law 513 = .ok (.iconst 1, 1) := dk_4 (dk_at dksL_law_15 9 rfl rfl)
theorem dL_law_514 : decode cL_law 514 = .ok (.iadd, 1) := dk_96 (dk_at dksL_law_15 10 rfl rfl)
theorem dL_law_515 : decode cL_law 515 = .ok (.iaload, 1) := dk_46 (dk_at dksL_law_15 11 rfl rfl)
theorem dL_law_516 : decode cL_law 516 = .ok (.aload_n 0, 1) := dk_42 (dk_at dksL_law_15 12 rfl rfl)
theorem dL_law_517 : decode cL_law 517 = .ok (.iload 4, 2) := dk_21 4 (dk_at dksL_law_15 13 rfl rfl)
theorem dL_law_519 : decode cL_law 519 = .ok (.iconst 2, 1) := dk_5 (dk_at dksL_law_15 15 rfl rfl)
theorem dL_law_520 : decode cL_law 520 = .ok (.iadd, 1) := dk_96 (dk_at dksL_law_15 16 rfl rfl)
theorem dL_law_521 : decode cL_law 521 = .ok (.iaload, 1) := dk_46 (dk_at dksL_law_15 17 rfl rfl)
theorem dL_law_522 : decode cL_law 522 = .ok (.invokevirtual 116, 3) := dk_182 0 116 (dk_at dksL_law_15 18 rfl rfl)
theorem dL_law_525 : decode cL_law 525 = .ok (.istore 6, 2) := dk_54 6 (dk_at dksL_law_15 21 rfl rfl)
theorem dL_law_527 : decode cL_law 527 = .ok (.aload_n 2, 1) := dk_44 (dk_at dksL_law_15 23 rfl rfl)
theorem dL_law_528 : decode cL_law 528 = .ok (.invokevirtual 99, 3) := dk_182 0 99 (dk_at dksL_law_16 0 rfl rfl)
theorem dL_law_531 : decode cL_law 531 = .ok (.iload 5, 2) := dk_21 5 (dk_at dksL_law_16 3 rfl rfl)
theorem dL_law_533 : decode cL_law 533 = .ok (.if_icmp .eq 5, 3) := dk_159 0 5 (dk_at dksL_law_16 5 rfl rfl)
theorem dL_law_536 : decode cL_law 536 = .ok (.iconst 0, 1) := dk_3 (dk_at dksL_law_16 8 rfl rfl)
theorem dL_law_537 : decode cL_law 537 = .ok (.ireturn, 1) := dk_172 (dk_at dksL_law_16 9 rfl rfl)
theorem dL_law_538 : decode cL_law 538 = .ok (.iload 5, 2) := dk_21 5 (dk_at dksL_law_16 10 rfl rfl)
theorem dL_law_540 : decode cL_law 540 = .ok (.ifCond .ne 15, 3) := dk_154 0 15 (dk_at dksL_law_16 12 rfl rfl)
theorem dL_law_543 : decode cL_law 543 = .ok (.aload_n 3, 1) := dk_45 (dk_at dksL_law_16 15 rfl rfl)
theorem dL_law_544 : decode cL_law 544 = .ok (.iconst 0, 1) := dk_3 (dk_at dksL_law_16 16 rfl rfl)
theorem dL_law_545 : decode cL_law 545 = .ok (.laload, 1) := dk_47 (dk_at dksL_law_16 17 rfl rfl)
theorem dL_law_546 : decode cL_law 546 = .ok (.iload 6, 2) := dk_21 6 (dk_at dksL_law_16 18 rfl rfl)
theorem dL_law_548 : decode cL_law 548 = .ok (.i2l, 1) := dk_133 (dk_at dksL_law_16 20 rfl rfl)
theorem dL_law_549 : decode cL_law 549 = .ok (.lcmp, 1) := dk_148 (dk_at dksL_law_16 21 rfl rfl)
theorem dL_law_550 : decode cL_law 550 = .ok (.ifCond .eq 5, 3) := dk_153 0 5 (dk_at dksL_law_17 0 rfl rfl)
theorem dL_law_553 : decode cL_law 553 = .ok (.iconst 0, 1) := dk_3 (dk_at dksL_law_17 3 rfl rfl)
theorem dL_law_554 : decode cL_law 554 = .ok (.ireturn, 1) := dk_172 (dk_at dksL_law_17 4 rfl rfl)
theorem dL_law_555 : decode cL_law 555 = .ok (.goto 1569, 3) := dk_167 6 33 (dk_at dksL_law_17 5 rfl rfl)
theorem dL_law_558 : decode cL_law 558 = .ok (.aload_n 1, 1) := dk_43 (dk_at dksL_law_17 8 rfl rfl)
theorem dL_law_559 : decode cL_law 559 = .ok (.aload_n 0, 1) := dk_42 (dk_at dksL_law_17 9 rfl rfl)
theorem dL_law_560 : decode cL_law 560 = .ok (.iload 4, 2) := dk_21 4 (dk_at dksL_law_17 10 rfl rfl)
theorem dL_law_562 : decode cL_law 562 = .ok (.iconst 1, 1) := dk_4 (dk_at dksL_law_17 12 rfl rfl)
theorem dL_law_563 : decode cL_law 563 = .ok (.iadd, 1) := dk_96 (dk_at dksL_law_17 13 rfl rfl)
theorem dL_law_564 : decode cL_law 564 = .ok (.iaload, 1) := dk_46 (dk_at dksL_law_17 14 rfl rfl)
theorem dL_law_565 : decode cL_law 565 = .ok (.aload_n 3, 1) := dk_45 (dk_at dksL_law_17 15 rfl rfl)
theorem dL_law_566 : decode cL_law 566 = .ok (.invokestatic 117, 3) := dk_184 0 117 (dk_at dksL_law_17 16 rfl rfl)
theorem dL_law_569 : decode cL_law 569 = .ok (.istore 5, 2) := dk_54 5 (dk_at dksL_law_17 19 rfl rfl)
theorem dL_law_571 : decode cL_law 571 = .ok (.aload_n 2, 1) := dk_44 (dk_at dksL_law_17 21 rfl rfl)
theorem dL_law_572 : decode cL_law 572 = .ok (.aload_n 0, 1) := dk_42 (dk_at dksL_law_17 22 rfl rfl)
theorem dL_law_573 : decode cL_law 573 = .ok (.iload 4, 2) := dk_21 4 (dk_at dksL_law_18 0 rfl rfl)
theorem dL_law_575 : decode cL_law 575 = .ok (.iconst 1, 1) := dk_4 (dk_at dksL_law_18 2 rfl rfl)
theorem dL_law_576 : decode cL_law 576 = .ok (.iadd, 1) := dk_96 (dk_at dksL_law_18 3 rfl rfl)
theorem dL_law_577 : decode cL_law 577 = .ok (.iaload, 1) := dk_46 (dk_at dksL_law_18 4 rfl rfl)
theorem dL_law_578 : decode cL_law 578 = .ok (.invokevirtual 119, 3) := dk_182 0 119 (dk_at dksL_law_18 5 rfl rfl)
theorem dL_law_581 : decode cL_law 581 = .ok (.istore 6, 2) := dk_54 6 (dk_at dksL_law_18 8 rfl rfl)
theorem dL_law_583 : decode cL_law 583 = .ok (.aload_n 2, 1) := dk_44 (dk_at dksL_law_18 10 rfl rfl)
theorem dL_law_584 : decode cL_law 584 = .ok (.invokevirtual 99, 3) := dk_182 0 99 (dk_at dksL_law_18 11 rfl rfl)
theorem dL_law_587 : decode cL_law 587 = .ok (.iload 5, 2) := dk_21 5 (dk_at dksL_law_18 14 rfl rfl)
theorem dL_law_589 : decode cL_law 589 = .ok (.if_icmp .eq 5, 3) := dk_159 0 5 (dk_at dksL_law_18 16 rfl rfl)
theorem dL_law_592 : decode cL_law 592 = .ok (.iconst 0, 1) := dk_3 (dk_at dksL_law_18 19 rfl rfl)
theorem dL_law_593 : decode cL_law 593 = .ok (.ireturn, 1) := dk_172 (dk_at dksL_law_18 20 rfl rfl)
theorem dL_law_594 : decode cL_law 594 = .ok (.iload 5, 2) := dk_21 5 (dk_at dksL_law_18 21 rfl rfl)
theorem dL_law_596 : decode cL_law 596 = .ok (.ifCond .ne 15, 3) := dk_154 0 15 (dk_at dksL_law_19 0 rfl rfl)
theorem dL_law_599 : decode cL_law 599 = .ok (.aload_n 3, 1) := dk_45 (dk_at dksL_law_19 3 rfl rfl)
theorem dL_law_600 : decode cL_law 600 = .ok (.iconst 0, 1) := dk_3 (dk_at dksL_law_19 4 rfl rfl)
theorem dL_law_601 : decode cL_law 601 = .ok (.laload, 1) := dk_47 (dk_at dksL_law_19 5 rfl rfl)
theorem dL_law_602 : decode cL_law 602 = .ok (.iload 6, 2) := dk_21 6 (dk_at dksL_law_19 6 rfl rfl)
theorem dL_law_604 : decode cL_law 604 = .ok (.i2l, 1) := dk_133 (dk_at dksL_law_19 8 rfl rfl)
theorem dL_law_605 : decode cL_law 605 = .ok (.lcmp, 1) := dk_148 (dk_at dksL_law_19 9 rfl rfl)
theorem dL_law_606 : decode cL_law 606 = .ok (.ifCond .eq 5, 3) := dk_153 0 5 (dk_at dksL_law_19 10 rfl rfl)
theorem dL_law_609 : decode cL_law 609 = .ok (.iconst 0, 1) := dk_3 (dk_at dksL_law_19 13 rfl rfl)
theorem dL_law_610 : decode cL_law 610 = .ok (.ireturn, 1) := dk_172 (dk_at dksL_law_19 14 rfl rfl)
theorem dL_law_611 : decode cL_law 611 = .ok (.goto 1513, 3) := dk_167 5 233 (dk_at dksL_law_19 15 rfl rfl)
theorem dL_law_614 : decode cL_law 614 = .ok (.aload_n 1, 1) := dk_43 (dk_at dksL_law_19 18 rfl rfl)
theorem dL_law_615 : decode cL_law 615 = .ok (.aload_n 0, 1) := dk_42 (dk_at dksL_law_19 19 rfl rfl)
theorem dL_law_616 : decode cL_law 616 = .ok (.iload 4, 2) := dk_21 4 (dk_at dksL_law_19 20 rfl rfl)
theorem dL_law_618 : decode cL_law 618 = .ok (.iconst 1, 1) := dk_4 (dk_at dksL_law_19 22 rfl rfl)
theorem dL_law_619 : decode cL_law 619 = .ok (.iadd, 1) := dk_96 (dk_at dksL_law_19 23 rfl rfl)
theorem dL_law_620 : decode cL_law 620 = .ok (.iaload, 1) := dk_46 (dk_at dksL_law_20 0 rfl rfl)
theorem dL_law_621 : decode cL_law 621 = .ok (.aload_n 3, 1) := dk_45 (dk_at dksL_law_20 1 rfl rfl)
theorem dL_law_622 : decode cL_law 622 = .ok (.invokestatic 120, 3) := dk_184 0 120 (dk_at dksL_law_20 2 rfl rfl)
theorem dL_law_625 : decode cL_law 625 = .ok (.istore 5, 2) := dk_54 5 (dk_at dksL_law_20 5 rfl rfl)
theorem dL_law_627 : decode cL_law 627 = .ok (.aload_n 2, 1) := dk_44 (dk_at dksL_law_20 7 rfl rfl)
theorem dL_law_628 : decode cL_law 628 = .ok (.aload_n 0, 1) := dk_42 (dk_at dksL_law_20 8 rfl rfl)
theorem dL_law_629 : decode cL_law 629 = .ok (.iload 4, 2) := dk_21 4 (dk_at dksL_law_20 9 rfl rfl)
theorem dL_law_631 : decode cL_law 631 = .ok (.iconst 1, 1) := dk_4 (dk_at dksL_law_20 11 rfl rfl)
theorem dL_law_632 : decode cL_law 632 = .ok (.iadd, 1) := dk_96 (dk_at dksL_law_20 12 rfl rfl)
theorem dL_law_633 : decode cL_law 633 = .ok (.iaload, 1) := dk_46 (dk_at dksL_law_20 13 rfl rfl)
theorem dL_law_634 : decode cL_law 634 = .ok (.invokevirtual 122, 3) := dk_182 0 122 (dk_at dksL_law_20 14 rfl rfl)
theorem dL_law_637 : decode cL_law 637 = .ok (.istore 6, 2) := dk_54 6 (dk_at dksL_law_20 17 rfl rfl)
theorem dL_law_639 : decode cL_law 639 = .ok (.aload_n 2, 1) := dk_44 (dk_at dksL_law_20 19 rfl rfl)
theorem dL_law_640 : decode cL_law 640 = .ok (.invokevirtual 99, 3) := dk_182 0 99 (dk_at dksL_law_20 20 rfl rfl)
theorem dL_law_643 : decode cL_law 643 = .ok (.iload 5, 2) := dk_21 5 (dk_at dksL_law_21 0 rfl rfl)
theorem dL_law_645 : decode cL_law 645 = .ok (.if_icmp .eq 5, 3) := dk_159 0 5 (dk_at dksL_law_21 2 rfl rfl)
theorem dL_law_648 : decode cL_law 648 = .ok (.iconst 0, 1) := dk_3 (dk_at dksL_law_21 5 rfl rfl)
theorem dL_law_649 : decode cL_law 649 = .ok (.ireturn, 1) := dk_172 (dk_at dksL_law_21 6 rfl rfl)
theorem dL_law_650 : decode cL_law 650 = .ok (.iload 5, 2) := dk_21 5 (dk_at dksL_law_21 7 rfl rfl)
theorem dL_law_652 : decode cL_law 652 = .ok (.ifCond .ne 15, 3) := dk_154 0 15 (dk_at dksL_law_21 9 rfl rfl)
theorem dL_law_655 : decode cL_law 655 = .ok (.aload_n 3, 1) := dk_45 (dk_at dksL_law_21 12 rfl rfl)
theorem dL_law_656 : decode cL_law 656 = .ok (.iconst 0, 1) := dk_3 (dk_at dksL_law_21 13 rfl rfl)
theorem dL_law_657 : decode cL_law 657 = .ok (.laload, 1) := dk_47 (dk_at dksL_law_21 14 rfl rfl)
theorem dL_law_658 : decode cL_law 658 = .ok (.iload 6, 2) := dk_21 6 (dk_at dksL_law_21 15 rfl rfl)
theorem dL_law_660 : decode cL_law 660 = .ok (.i2l, 1) := dk_133 (dk_at dksL_law_21 17 rfl rfl)
theorem dL_law_661 : decode cL_law 661 = .ok (.lcmp, 1) := dk_148 (dk_at dksL_law_21 18 rfl rfl)
theorem dL_law_662 : decode cL_law 662 = .ok (.ifCond .eq 5, 3) := dk_153 0 5 (dk_at dksL_law_21 19 rfl rfl)
theorem dL_law_665 : decode cL_law 665 = .ok (.iconst 0, 1) := dk_3 (dk_at dksL_law_21 22 rfl rfl)
theorem dL_law_666 : decode cL_law 666 = .ok (.ireturn, 1) := dk_172 (dk_at dksL_law_21 23 rfl rfl)
theorem dL_law_667 : decode cL_law 667 = .ok (.goto 1457, 3) := dk_167 5 177 (dk_at dksL_law_22 0 rfl rfl)
theorem dL_law_670 : decode cL_law 670 = .ok (.aload_n 1, 1) := dk_43 (dk_at dksL_law_22 3 rfl rfl)
theorem dL_law_671 : decode cL_law 671 = .ok (.aload_n 0, 1) := dk_42 (dk_at dksL_law_22 4 rfl rfl)
theorem dL_law_672 : decode cL_law 672 = .ok (.iload 4, 2) := dk_21 4 (dk_at dksL_law_22 5 rfl rfl)
theorem dL_law_674 : decode cL_law 674 = .ok (.iconst 1, 1) := dk_4 (dk_at dksL_law_22 7 rfl rfl)
theorem dL_law_675 : decode cL_law 675 = .ok (.iadd, 1) := dk_96 (dk_at dksL_law_22 8 rfl rfl)
theorem dL_law_676 : decode cL_law 676 = .ok (.iaload, 1) := dk_46 (dk_at dksL_law_22 9 rfl rfl)
theorem dL_law_677 : decode cL_law 677 = .ok (.aload_n 3, 1) := dk_45 (dk_at dksL_law_22 10 rfl rfl)
theorem dL_law_678 : decode cL_law 678 = .ok (.invokestatic 123, 3) := dk_184 0 123 (dk_at dksL_law_22 11 rfl rfl)
theorem dL_law_681 : decode cL_law 681 = .ok (.istore 5, 2) := dk_54 5 (dk_at dksL_law_22 14 rfl rfl)
theorem dL_law_683 : decode cL_law 683 = .ok (.aload_n 2, 1) := dk_44 (dk_at dksL_law_22 16 rfl rfl)
theorem dL_law_684 : decode cL_law 684 = .ok (.aload_n 0, 1) := dk_42 (dk_at dksL_law_22 17 rfl rfl)
theorem dL_law_685 : decode cL_law 685 = .ok (.iload 4, 2) := dk_21 4 (dk_at dksL_law_22 18 rfl rfl)
theorem dL_law_687 : decode cL_law 687 = .ok (.iconst 1, 1) := dk_4 (dk_at dksL_law_22 20 rfl rfl)
theorem dL_law_688 : decode cL_law 688 = .ok (.iadd, 1) := dk_96 (dk_at dksL_law_22 21 rfl rfl)
theorem dL_law_689 : decode cL_law 689 = .ok (.iaload, 1) := dk_46 (dk_at dksL_law_22 22 rfl rfl)
theorem dL_law_690 : decode cL_law 690 = .ok (.invokevirtual 125, 3) := dk_182 0 125 (dk_at dksL_law_23 0 rfl rfl)
theorem dL_law_693 : decode cL_law 693 = .ok (.istore 6, 2) := dk_54 6 (dk_at dksL_law_23 3 rfl rfl)
theorem dL_law_695 : decode cL_law 695 = .ok (.aload_n 2, 1) := dk_44 (dk_at dksL_law_23 5 rfl rfl)
theorem dL_law_696 : decode cL_law 696 = .ok (.invokevirtual 99, 3) := dk_182 0 99 (dk_at dksL_law_23 6 rfl rfl)
theorem dL_law_699 : decode cL_law 699 = .ok (.iload 5, 2) := dk_21 5 (dk_at dksL_law_23 9 rfl rfl)
theorem dL_law_701 : decode cL_law 701 = .ok (.if_icmp .eq 5, 3) := dk_159 0 5 (dk_at dksL_law_23 11 rfl rfl)
theorem dL_law_704 : decode cL_law 704 = .ok (.iconst 0, 1) := dk_3 (dk_at dksL_law_23 14 rfl rfl)
theorem dL_law_705 : decode cL_law 705 = .ok (.ireturn, 1) := dk_172 (dk_at dksL_law_23 15 rfl rfl)
theorem dL_law_706 : decode cL_law 706 = .ok (.iload 5, 2) := dk_21 5 (dk_at dksL_law_23 16 rfl rfl)
theorem dL_law_708 : decode cL_law 708 = .ok (.ifCond .ne 15, 3) := dk_154 0 15 (dk_at dksL_law_23 18 rfl rfl)
theorem dL_law_711 : decode cL_law 711 = .ok (.aload_n 3, 1) := dk_45 (dk_at dksL_law_23 21 rfl rfl)
theorem dL_law_712 : decode cL_law 712 = .ok (.iconst 0, 1) := dk_3 (dk_at dksL_law_23 22 rfl rfl)
theorem dL_law_713 : decode cL_law 713 = .ok (.laload, 1) := dk_47 (dk_at dksL_law_23 23 rfl rfl)
theorem dL_law_714 : decode cL_law 714 = .ok (.iload 6, 2) := dk_21 6 (dk_at dksL_law_24 0 rfl rfl)
theorem dL_law_716 : decode cL_law 716 = .ok (.i2l, 1) := dk_133 (dk_at dksL_law_24 2 rfl rfl)
theorem dL_law_717 : decode cL_law 717 = .ok (.lcmp, 1) := dk_148 (dk_at dksL_law_24 3 rfl rfl)
theorem dL_law_718 : decode cL_law 718 = .ok (.ifCond .eq 5, 3) := dk_153 0 5 (dk_at dksL_law_24 4 rfl rfl)
theorem dL_law_721 : decode cL_law 721 = .ok (.iconst 0, 1) := dk_3 (dk_at dksL_law_24 7 rfl rfl)
theorem dL_law_722 : decode cL_law 722 = .ok (.ireturn, 1) := dk_172 (dk_at dksL_law_24 8 rfl rfl)
theorem dL_law_723 : decode cL_law 723 = .ok (.goto 1401, 3) := dk_167 5 121 (dk_at dksL_law_24 9 rfl rfl)
theorem dL_law_726 : decode cL_law 726 = .ok (.aload_n 1, 1) := dk_43 (dk_at dksL_law_24 12 rfl rfl)
theorem dL_law_727 : decode cL_law 727 = .ok (.aload_n 0, 1) := dk_42 (dk_at dksL_law_24 13 rfl rfl)
theorem dL_law_728 : decode cL_law 728 = .ok (.iload 4, 2) := dk_21 4 (dk_at dksL_law_24 14 rfl rfl)
theorem dL_law_730 : decode cL_law 730 = .ok (.iconst 1, 1) := dk_4 (dk_at dksL_law_24 16 rfl rfl)
theorem dL_law_731 : decode cL_law 731 = .ok (.iadd, 1) := dk_96 (dk_at dksL_law_24 17 rfl rfl)
theorem dL_law_732 : decode cL_law 732 = .ok (.iaload, 1) := dk_46 (dk_at dksL_law_24 18 rfl rfl)
theorem dL_law_733 : decode cL_law 733 = .ok (.invokevirtual 126, 3) := dk_182 0 126 (dk_at dksL_law_24 19 rfl rfl)
theorem dL_law_736 : decode cL_law 736 = .ok (.aload_n 2, 1) := dk_44 (dk_at dksL_law_24 22 rfl rfl)
theorem dL_law_737 : decode cL_law 737 = .ok (.aload_n 0, 1) := dk_42 (dk_at dksL_law_24 23 rfl rfl)
theorem dL_law_738 : decode cL_law 738 = .ok (.iload 4, 2) := dk_21 4 (dk_at dksL_law_25 0 rfl rfl)
theorem dL_law_740 : decode cL_law 740 = .ok (.iconst 1, 1) := dk_4 (dk_at dksL_law_25 2 rfl rfl)
theorem dL_law_741 : decode cL_law 741 = .ok (.iadd, 1) := dk_96 (dk_at dksL_law_25 3 rfl rfl)
theorem dL_law_742 : decode cL_law 742 = .ok (.iaload, 1) := dk_46 (dk_at dksL_law_25 4 rfl rfl)
theorem dL_law_743 : decode cL_law 743 = .ok (.invokevirtual 129, 3) := dk_182 0 129 (dk_at dksL_law_25 5 rfl rfl)
theorem dL_law_746 : decode cL_law 746 = .ok (.if_icmp .eq 1378, 3) := dk_159 5 98 (dk_at dksL_law_25 8 rfl rfl)
theorem dL_law_749 : decode cL_law 749 = .ok (.iconst 0, 1) := dk_3 (dk_at dksL_law_25 11 rfl rfl)
theorem dL_law_750 : decode cL_law 750 = .ok (.ireturn, 1) := dk_172 (dk_at dksL_law_25 12 rfl rfl)
theorem dL_law_751 : decode cL_law 751 = .ok (.aload_n 1, 1) := dk_43 (dk_at dksL_law_25 13 rfl rfl)
theorem dL_law_752 : decode cL_law 752 = .ok (.aload_n 0, 1) := dk_42 (dk_at dksL_law_25 14 rfl rfl)
theorem dL_law_753 : decode cL_law 753 = .ok (.iload 4, 2) := dk_21 4 (dk_at dksL_law_25 15 rfl rfl)
theorem dL_law_755 : decode cL_law 755 = .ok (.iconst 1, 1) := dk_4 (dk_at dksL_law_25 17 rfl rfl)
theorem dL_law_756 : decode cL_law 756 = .ok (.iadd, 1) := dk_96 (dk_at dksL_law_25 18 rfl rfl)
theorem dL_law_757 : decode cL_law 757 = .ok (.iaload, 1) := dk_46 (dk_at dksL_law_25 19 rfl rfl)
theorem dL_law_758 : decode cL_law 758 = .ok (.invokevirtual 130, 3) := dk_182 0 130 (dk_at dksL_law_25 20 rfl rfl)
theorem dL_law_761 : decode cL_law 761 = .ok (.aload_n 2, 1) := dk_44 (dk_at dksL_law_25 23 rfl rfl)
theorem dL_law_762 : decode cL_law 762 = .ok (.aload_n 0, 1) := dk_42 (dk_at dksL_law_26 0 rfl rfl)
theorem dL_law_763 : decode cL_law 763 = .ok (.iload 4, 2) := dk_21 4 (dk_at dksL_law_26 1 rfl rfl)
theorem dL_law_765 : decode cL_law 765 = .ok (.iconst 1, 1) := dk_4 (dk_at dksL_law_26 3 rfl rfl)
theorem dL_law_766 : decode cL_law 766 = .ok (.iadd, 1) := dk_96 (dk_at dksL_law_26 4 rfl rfl)
theorem dL_law_767 : decode cL_law 767 = .ok (.iaload, 1) := dk_46 (dk_at dksL_law_26 5 rfl rfl)
theorem dL_law_768 : decode cL_law 768 = .ok (.invokevirtual 133, 3) := dk_182 0 133 (dk_at dksL_law_26 6 rfl rfl)
theorem dL_law_771 : decode cL_law 771 = .ok (.if_icmp .eq 1353, 3) := dk_159 5 73 (dk_at dksL_law_26 9 rfl rfl)
theorem dL_law_774 : decode cL_law 774 = .ok (.iconst 0, 1) := dk_3 (dk_at dksL_law_26 12 rfl rfl)
theorem dL_law_775 : decode cL_law 775 = .ok (.ireturn, 1) := dk_172 (dk_at dksL_law_26 13 rfl rfl)
theorem dL_law_776 : decode cL_law 776 = .ok (.aload_n 1, 1) := dk_43 (dk_at dksL_law_26 14 rfl rfl)
theorem dL_law_777 : decode cL_law 777 = .ok (.invokevirtual 134, 3) := dk_182 0 134 (dk_at dksL_law_26 15 rfl rfl)
theorem dL_law_780 : decode cL_law 780 = .ok (.aload_n 2, 1) := dk_44 (dk_at dksL_law_26 18 rfl rfl)
theorem dL_law_781 : decode cL_law 781 = .ok (.invokevirtual 137, 3) := dk_182 0 137 (dk_at dksL_law_26 19 rfl rfl)
theorem dL_law_784 : decode cL_law 784 = .ok (.if_icmp .eq 1340, 3) := dk_159 5 60 (dk_at dksL_law_27 0 rfl rfl)
theorem dL_law_787 : decode cL_law 787 = .ok (.iconst 0, 1) := dk_3 (dk_at dksL_law_27 3 rfl rfl)
theorem dL_law_788 : decode cL_law 788 = .ok (.ireturn, 1) := dk_172 (dk_at dksL_law_27 4 rfl rfl)
theorem dL_law_789 : decode cL_law 789 = .ok (.aload_n 1, 1) := dk_43 (dk_at dksL_law_27 5 rfl rfl)
theorem dL_law_790 : decode cL_law 790 = .ok (.aload_n 0, 1) := dk_42 (dk_at dksL_law_27 6 rfl rfl)
theorem dL_law_791 : decode cL_law 791 = .ok (.iload 4, 2) := dk_21 4 (dk_at dksL_law_27 7 rfl rfl)
theorem dL_law_793 : decode cL_law 793 = .ok (.iconst 1, 1) := dk_4 (dk_at dksL_law_27 9 rfl rfl)
theorem dL_law_794 : decode cL_law 794 = .ok (.iadd, 1) := dk_96 (dk_at dksL_law_27 10 rfl rfl)
theorem dL_law_795 : decode cL_law 795 = .ok (.iaload, 1) := dk_46 (dk_at dksL_law_27 11 rfl rfl)
theorem dL_law_796 : decode cL_law 796 = .ok (.ifCond .eq 7, 3) := dk_153 0 7 (dk_at dksL_law_27 12 rfl rfl)
theorem dL_law_799 : decode cL_law 799 = .ok (.iconst 1, 1) := dk_4 (dk_at dksL_law_27 15 rfl rfl)
theorem dL_law_800 : decode cL_law 800 = .ok (.goto 4, 3) := dk_167 0 4 (dk_at dksL_law_27 16 rfl rfl)
theorem dL_law_803 : decode cL_law 803 = .ok (.iconst 0, 1) := dk_3 (dk_at dksL_law_27 19 rfl rfl)
theorem dL_law_804 : decode cL_law 804 = .ok (.aload_n 0, 1) := dk_42 (dk_at dksL_law_27 20 rfl rfl)
theorem dL_law_805 : decode cL_law 805 = .ok (.iload 4, 2) := dk_21 4 (dk_at dksL_law_27 21 rfl rfl)
theorem dL_law_807 : decode cL_law 807 = .ok (.iconst 2, 1) := dk_5 (dk_at dksL_law_27 23 rfl rfl)
theorem dL_law_808 : decode cL_law 808 = .ok (.iadd, 1) := dk_96 (dk_at dksL_law_28 0 rfl rfl)
theorem dL_law_809 : decode cL_law 809 = .ok (.iaload, 1) := dk_46 (dk_at dksL_law_28 1 rfl rfl)
theorem dL_law_810 : decode cL_law 810 = .ok (.aload_n 3, 1) := dk_45 (dk_at dksL_law_28 2 rfl rfl)
theorem dL_law_811 : decode cL_law 811 = .ok (.invokestatic 138, 3) := dk_184 0 138 (dk_at dksL_law_28 3 rfl rfl)
theorem dL_law_814 : decode cL_law 814 = .ok (.istore 5, 2) := dk_54 5 (dk_at dksL_law_28 6 rfl rfl)
theorem dL_law_816 : decode cL_law 816 = .ok (.aload_n 2, 1) := dk_44 (dk_at dksL_law_28 8 rfl rfl)
theorem dL_law_817 : decode cL_law 817 = .ok (.aload_n 0, 1) := dk_42 (dk_at dksL_law_28 9 rfl rfl)
theorem dL_law_818 : decode cL_law 818 = .ok (.iload 4, 2) := dk_21 4 (dk_at dksL_law_28 10 rfl rfl)
theorem dL_law_820 : decode cL_law 820 = .ok (.iconst 1, 1) := dk_4 (dk_at dksL_law_28 12 rfl rfl)
theorem dL_law_821 : decode cL_law 821 = .ok (.iadd, 1) := dk_96 (dk_at dksL_law_28 13 rfl rfl)
theorem dL_law_822 : decode cL_law 822 = .ok (.iaload, 1) := dk_46 (dk_at dksL_law_28 14 rfl rfl)
theorem dL_law_823 : decode cL_law 823 = .ok (.ifCond .eq 7, 3) := dk_153 0 7 (dk_at dksL_law_28 15 rfl rfl)
theorem dL_law_826 : decode cL_law 826 = .ok (.iconst 1, 1) := dk_4 (dk_at dksL_law_28 18 rfl rfl)
theorem dL_law_827 : decode cL_law 827 = .ok (.goto 4, 3) := dk_167 0 4 (dk_at dksL_law_28 19 rfl rfl)
theorem dL_law_830 : decode cL_law 830 = .ok (.iconst 0, 1) := dk_3 (dk_at dksL_law_28 22 rfl rfl)
theorem dL_law_831 : decode cL_law 831 = .ok (.aload_n 0, 1) := dk_42 (dk_at dksL_law_28 23 rfl rfl)
theorem dL_law_832 : decode cL_law 832 = .ok (.iload 4, 2) := dk_21 4 (dk_at dksL_law_29 0 rfl rfl)
theorem dL_law_834 : decode cL_law 834 = .ok (.iconst 2, 1) := dk_5 (dk_at dksL_law_29 2 rfl rfl)
theorem dL_law_835 : decode cL_law 835 = .ok (.iadd, 1) := dk_96 (dk_at dksL_law_29 3 rfl rfl)
theorem dL_law_836 : decode cL_law 836 = .ok (.iaload, 1) := dk_46 (dk_at dksL_law_29 4 rfl rfl)
theorem dL_law_837 : decode cL_law 837 = .ok (.invokevirtual 141, 3) := dk_182 0 141 (dk_at dksL_law_29 5 rfl rfl)
theorem dL_law_840 : decode cL_law 840 = .ok (.istore 6, 2) := dk_54 6 (dk_at dksL_law_29 8 rfl rfl)
theorem dL_law_842 : decode cL_law 842 = .ok (.aload_n 2, 1) := dk_44 (dk_at dksL_law_29 10 rfl rfl)
theorem dL_law_843 : decode cL_law 843 = .ok (.invokevirtual 99, 3) := dk_182 0 99 (dk_at dksL_law_29 11 rfl rfl)
theorem dL_law_846 : decode cL_law 846 = .ok (.iload 5, 2) := dk_21 5 (dk_at dksL_law_29 14 rfl rfl)
theorem dL_law_848 : decode cL_law 848 = .ok (.if_icmp .eq 5, 3) := dk_159 0 5 (dk_at dksL_law_29 16 rfl rfl)
theorem dL_law_851 : decode cL_law 851 = .ok (.iconst 0, 1) := dk_3 (dk_at dksL_law_29 19 rfl rfl)
theorem dL_law_852 : decode cL_law 852 = .ok (.ireturn, 1) := dk_172 (dk_at dksL_law_29 20 rfl rfl)
theorem dL_law_853 : decode cL_law 853 = .ok (.iload 5, 2) := dk_21 5 (dk_at dksL_law_29 21 rfl rfl)
theorem dL_law_855 : decode cL_law 855 = .ok (.ifCond .ne 15, 3) := dk_154 0 15 (dk_at dksL_law_30 0 rfl rfl)
theorem dL_law_858 : decode cL_law 858 = .ok (.aload_n 3, 1) := dk_45 (dk_at dksL_law_30 3 rfl rfl)
theorem dL_law_859 : decode cL_law 859 = .ok (.iconst 0, 1) := dk_3 (dk_at dksL_law_30 4 rfl rfl)
theorem dL_law_860 : decode cL_law 860 = .ok (.laload, 1) := dk_47 (dk_at dksL_law_30 5 rfl rfl)
theorem dL_law_861 : decode cL_law 861 = .ok (.iload 6, 2) := dk_21 6 (dk_at dksL_law_30 6 rfl rfl)
theorem dL_law_863 : decode cL_law 863 = .ok (.i2l, 1) := dk_133 (dk_at dksL_law_30 8 rfl rfl)
theorem dL_law_864 : decode cL_law 864 = .ok (.lcmp, 1) := dk_148 (dk_at dksL_law_30 9 rfl rfl)
theorem dL_law_865 : decode cL_law 865 = .ok (.ifCond .eq 5, 3) := dk_153 0 5 (dk_at dksL_law_30 10 rfl rfl)
theorem dL_law_868 : decode cL_law 868 = .ok (.iconst 0, 1) := dk_3 (dk_at dksL_law_30 13 rfl rfl)
theorem dL_law_869 : decode cL_law 869 = .ok (.ireturn, 1) := dk_172 (dk_at dksL_law_30 14 rfl rfl)
theorem dL_law_870 : decode cL_law 870 = .ok (.goto 1254, 3) := dk_167 4 230 (dk_at dksL_law_30 15 rfl rfl)
theorem dL_law_873 : decode cL_law 873 = .ok (.aload_n 1, 1) := dk_43 (dk_at dksL_law_30 18 rfl rfl)
theorem dL_law_874 : decode cL_law 874 = .ok (.aload_n 0, 1) := dk_42 (dk_at dksL_law_30 19 rfl rfl)
theorem dL_law_875 : decode cL_law 875 = .ok (.iload 4, 2) := dk_21 4 (dk_at dksL_law_30 20 rfl rfl)
theorem dL_law_877 : decode cL_law 877 = .ok (.iconst 1, 1) := dk_4 (dk_at dksL_law_30 22 rfl rfl)
theorem dL_law_878 : decode cL_law 878 = .ok (.iadd, 1) := dk_96 (dk_at dksL_law_30 23 rfl rfl)
theorem dL_law_879 : decode cL_law 879 = .ok (.iaload, 1) := dk_46 (dk_at dksL_law_31 0 rfl rfl)
theorem dL_law_880 : decode cL_law 880 = .ok (.aload_n 0, 1) := dk_42 (dk_at dksL_law_31 1 rfl rfl)
theorem dL_law_881 : decode cL_law 881 = .ok (.iload 4, 2) := dk_21 4 (dk_at dksL_law_31 2 rfl rfl)
theorem dL_law_883 : decode cL_law 883 = .ok (.iconst 2, 1) := dk_5 (dk_at dksL_law_31 4 rfl rfl)
theorem dL_law_884 : decode cL_law 884 = .ok (.iadd, 1) := dk_96 (dk_at dksL_law_31 5 rfl rfl)
theorem dL_law_885 : decode cL_law 885 = .ok (.iaload, 1) := dk_46 (dk_at dksL_law_31 6 rfl rfl)
theorem dL_law_886 : decode cL_law 886 = .ok (.aload_n 3, 1) := dk_45 (dk_at dksL_law_31 7 rfl rfl)
theorem dL_law_887 : decode cL_law 887 = .ok (.invokestatic 142, 3) := dk_184 0 142 (dk_at dksL_law_31 8 rfl rfl)
theorem dL_law_890 : decode cL_law 890 = .ok (.istore 5, 2) := dk_54 5 (dk_at dksL_law_31 11 rfl rfl)
theorem dL_law_892 : decode cL_law 892 = .ok (.aload_n 2, 1) := dk_44 (dk_at dksL_law_31 13 rfl rfl)
theorem dL_law_893 : decode cL_law 893 = .ok (.aload_n 0, 1) := dk_42 (dk_at dksL_law_31 14 rfl rfl)
theorem dL_law_894 : decode cL_law 894 = .ok (.iload 4, 2) := dk_21 4 (dk_at dksL_law_31 15 rfl rfl)
theorem dL_law_896 : decode cL_law 896 = .ok (.iconst 1, 1) := dk_4 (dk_at dksL_law_31 17 rfl rfl)
theorem dL_law_897 : decode cL_law 897 = .ok (.iadd, 1) := dk_96 (dk_at dksL_law_31 18 rfl rfl)
theorem dL_law_898 : decode cL_law 898 = .ok (.iaload, 1) := dk_46 (dk_at dksL_law_31 19 rfl rfl)
theorem dL_law_899 : decode cL_law 899 = .ok (.aload_n 0, 1) := dk_42 (dk_at dksL_law_31 20 rfl rfl)
theorem dL_law_900 : decode cL_law 900 = .ok (.iload 4, 2) := dk_21 4 (dk_at dksL_law_31 21 rfl rfl)
theorem dL_law_902 : decode cL_law 902 = .ok (.iconst 2, 1) := dk_5 (dk_at dksL_law_31 23 rfl rfl)
theorem dL_law_903 : decode cL_law 903 = .ok (.iadd, 1) := dk_96 (dk_at dksL_law_32 0 rfl rfl)
theorem dL_law_904 : decode cL_law 904 = .ok (.iaload, 1) := dk_46 (dk_at dksL_law_32 1 rfl rfl)
theorem dL_law_905 : decode cL_law 905 = .ok (.invokevirtual 144, 3) := dk_182 0 144 (dk_at dksL_law_32 2 rfl rfl)
theorem dL_law_908 : decode cL_law 908 = .ok (.istore 6, 2) := dk_54 6 (dk_at dksL_law_32 5 rfl rfl)
theorem dL_law_910 : decode cL_law 910 = .ok (.aload_n 2, 1) := dk_44 (dk_at dksL_law_32 7 rfl rfl)
theorem dL_law_911 : decode cL_law 911 = .ok (.invokevirtual 99, 3) := dk_182 0 99 (dk_at dksL_law_32 8 rfl rfl)
theorem dL_law_914 : decode cL_law 914 = .ok (.iload 5, 2) := dk_21 5 (dk_at dksL_law_32 11 rfl rfl)
theorem dL_law_916 : decode cL_law 916 = .ok (.if_icmp .eq 5, 3) := dk_159 0 5 (dk_at dksL_law_32 13 rfl rfl)
theorem dL_law_919 : decode cL_law 919 = .ok (.iconst 0, 1) := dk_3 (dk_at dksL_law_32 16 rfl rfl)
theorem dL_law_920 : decode cL_law 920 = .ok (.ireturn, 1) := dk_172 (dk_at dksL_law_32 17 rfl rfl)
theorem dL_law_921 : decode cL_law 921 = .ok (.iload 5, 2) := dk_21 5 (dk_at dksL_law_32 18 rfl rfl)
theorem dL_law_923 : decode cL_law 923 = .ok (.ifCond .ne 15, 3) := dk_154 0 15 (dk_at dksL_law_32 20 rfl rfl)
theorem dL_law_926 : decode cL_law 926 = .ok (.aload_n 3, 1) := dk_45 (dk_at dksL_law_32 23 rfl rfl)
theorem dL_law_927 : decode cL_law 927 = .ok (.iconst 0, 1) := dk_3 (dk_at dksL_law_33 0 rfl rfl)
theorem dL_law_928 : decode cL_law 928 = .ok (.laload, 1) := dk_47 (dk_at dksL_law_33 1 rfl rfl)
theorem dL_law_929 : decode cL_law 929 = .ok (.iload 6, 2) := dk_21 6 (dk_at dksL_law_33 2 rfl rfl)
theorem dL_law_931 : decode cL_law 931 = .ok (.i2l, 1) := dk_133 (dk_at dksL_law_33 4 rfl rfl)
theorem dL_law_932 : decode cL_law 932 = .ok (.lcmp, 1) := dk_148 (dk_at dksL_law_33 5 rfl rfl)
theorem dL_law_933 : decode cL_law 933 = .ok (.ifCond .eq 5, 3) := dk_153 0 5 (dk_at dksL_law_33 6 rfl rfl)
theorem dL_law_936 : decode cL_law 936 = .ok (.iconst 0, 1) := dk_3 (dk_at dksL_law_33 9 rfl rfl)
theorem dL_law_937 : decode cL_law 937 = .ok (.ireturn, 1) := dk_172 (dk_at dksL_law_33 10 rfl rfl)
theorem dL_law_938 : decode cL_law 938 = .ok (.goto 1186, 3) := dk_167 4 162 (dk_at dksL_law_33 11 rfl rfl)
theorem dL_law_941 : decode cL_law 941 = .ok (.aload_n 1, 1) := dk_43 (dk_at dksL_law_33 14 rfl rfl)
theorem dL_law_942 : decode cL_law 942 = .ok (.aload_n 0, 1) := dk_42 (dk_at dksL_law_33 15 rfl rfl)
theorem dL_law_943 : decode cL_law 943 = .ok (.iload 4, 2) := dk_21 4 (dk_at dksL_law_33 16 rfl rfl)
theorem dL_law_945 : decode cL_law 945 = .ok (.iconst 1, 1) := dk_4 (dk_at dksL_law_33 18 rfl rfl)
theorem dL_law_946 : decode cL_law 946 = .ok (.iadd, 1) := dk_96 (dk_at dksL_law_33 19 rfl rfl)
theorem dL_law_947 : decode cL_law 947 = .ok (.iaload, 1) := dk_46 (dk_at dksL_law_33 20 rfl rfl)
theorem dL_law_948 : decode cL_law 948 = .ok (.ifCond .eq 7, 3) := dk_153 0 7 (dk_at dksL_law_33 21 rfl rfl)
theorem dL_law_951 : decode cL_law 951 = .ok (.iconst 1, 1) := dk_4 (dk_at dksL_law_34 0 rfl rfl)
theorem dL_law_952 : decode cL_law 952 = .ok (.goto 4, 3) := dk_167 0 4 (dk_at dksL_law_34 1 rfl rfl)
theorem dL_law_955 : decode cL_law 955 = .ok (.iconst 0, 1) := dk_3 (dk_at dksL_law_34 4 rfl rfl)
theorem dL_law_956 : decode cL_law 956 = .ok (.invokevirtual 145, 3) := dk_182 0 145 (dk_at dksL_law_34 5 rfl rfl)
theorem dL_law_959 : decode cL_law 959 = .ok (.aload_n 2, 1) := dk_44 (dk_at dksL_law_34 8 rfl rfl)
theorem dL_law_960 : decode cL_law 960 = .ok (.aload_n 0, 1) := dk_42 (dk_at dksL_law_34 9 rfl rfl)
theorem dL_law_961 : decode cL_law 961 = .ok (.iload 4, 2) := dk_21 4 (dk_at dksL_law_34 10 rfl rfl)
theorem dL_law_963 : decode cL_law 963 = .ok (.iconst 1, 1) := dk_4 (dk_at dksL_law_34 12 rfl rfl)
theorem dL_law_964 : decode cL_law 964 = .ok (.iadd, 1) := dk_96 (dk_at dksL_law_34 13 rfl rfl)
theorem dL_law_965 : decode cL_law 965 = .ok (.iaload, 1) := dk_46 (dk_at dksL_law_34 14 rfl rfl)
theorem dL_law_966 : decode cL_law 966 = .ok (.ifCond .eq 7, 3) := dk_153 0 7 (dk_at dksL_law_34 15 rfl rfl)
theorem dL_law_969 : decode cL_law 969 = .ok (.iconst 1, 1) := dk_4 (dk_at dksL_law_34 18 rfl rfl)
theorem dL_law_970 : decode cL_law 970 = .ok (.goto 4, 3) := dk_167 0 4 (dk_at dksL_law_34 19 rfl rfl)
theorem dL_law_973 : decode cL_law 973 = .ok (.iconst 0, 1) := dk_3 (dk_at dksL_law_34 22 rfl rfl)
theorem dL_law_974 : decode cL_law 974 = .ok (.invokevirtual 149, 3) := dk_182 0 149 (dk_at dksL_law_35 0 rfl rfl)
theorem dL_law_977 : decode cL_law 977 = .ok (.lcmp, 1) := dk_148 (dk_at dksL_law_35 3 rfl rfl)
theorem dL_law_978 : decode cL_law 978 = .ok (.ifCond .eq 1146, 3) := dk_153 4 122 (dk_at dksL_law_35 4 rfl rfl)
theorem dL_law_981 : decode cL_law 981 = .ok (.iconst 0, 1) := dk_3 (dk_at dksL_law_35 7 rfl rfl)
theorem dL_law_982 : decode cL_law 982 = .ok (.ireturn, 1) := dk_172 (dk_at dksL_law_35 8 rfl rfl)
theorem dL_law_983 : decode cL_law 983 = .ok (.aload_n 1, 1) := dk_43 (dk_at dksL_law_35 9 rfl rfl)
theorem dL_law_984 : decode cL_law 984 = .ok (.aload_n 0, 1) := dk_42 (dk_at dksL_law_35 10 rfl rfl)
theorem dL_law_985 : decode cL_law 985 = .ok (.iload 4, 2) := dk_21 4 (dk_at dksL_law_35 11 rfl rfl)
theorem dL_law_987 : decode cL_law 987 = .ok (.iconst 1, 1) := dk_4 (dk_at dksL_law_35 13 rfl rfl)
theorem dL_law_988 : decode cL_law 988 = .ok (.iadd, 1) := dk_96 (dk_at dksL_law_35 14 rfl rfl)
theorem dL_law_989 : decode cL_law 989 = .ok (.iaload, 1) := dk_46 (dk_at dksL_law_35 15 rfl rfl)
theorem dL_law_990 : decode cL_law 990 = .ok (.ifCond .eq 7, 3) := dk_153 0 7 (dk_at dksL_law_35 16 rfl rfl)
theorem dL_law_993 : decode cL_law 993 = .ok (.iconst 1, 1) := dk_4 (dk_at dksL_law_35 19 rfl rfl)
theorem dL_law_994 : decode cL_law 994 = .ok (.goto 4, 3) := dk_167 0 4 (dk_at dksL_law_35 20 rfl rfl)
theorem dL_law_997 : decode cL_law 997 = .ok (.iconst 0, 1) := dk_3 (dk_at dksL_law_35 23 rfl rfl)
theorem dL_law_998 : decode cL_law 998 = .ok (.invokevirtual 150, 3) := dk_182 0 150 (dk_at dksL_law_36 0 rfl rfl)
theorem dL_law_1001 : decode cL_law 1001 = .ok (.aload_n 2, 1) := dk_44 (dk_at dksL_law_36 3 rfl rfl)
theorem dL_law_1002 : decode cL_law 1002 = .ok (.aload_n 0, 1) := dk_42 (dk_at dksL_law_36 4 rfl rfl)
theorem dL_law_1003 : decode cL_law 1003 = .ok (.iload 4, 2) := dk_21 4 (dk_at dksL_law_36 5 rfl rfl)
theorem dL_law_1005 : decode cL_law 1005 = .ok (.iconst 1, 1) := dk_4 (dk_at dksL_law_36 7 rfl rfl)
theorem dL_law_1006 : decode cL_law 1006 = .ok (.iadd, 1) := dk_96 (dk_at dksL_law_36 8 rfl rfl)
theorem dL_law_1007 : decode cL_law 1007 = .ok (.iaload, 1) := dk_46 (dk_at dksL_law_36 9 rfl rfl)
theorem dL_law_1008 : decode cL_law 1008 = .ok (.ifCond .eq 7, 3) := dk_153 0 7 (dk_at dksL_law_36 10 rfl rfl)
theorem dL_law_1011 : decode cL_law 1011 = .ok (.iconst 1, 1) := dk_4 (dk_at dksL_law_36 13 rfl rfl)
theorem dL_law_1012 : decode cL_law 1012 = .ok (.goto 4, 3) := dk_167 0 4 (dk_at dksL_law_36 14 rfl rfl)
theorem dL_law_1015 : decode cL_law 1015 = .ok (.iconst 0, 1) := dk_3 (dk_at dksL_law_36 17 rfl rfl)
theorem dL_law_1016 : decode cL_law 1016 = .ok (.invokevirtual 154, 3) := dk_182 0 154 (dk_at dksL_law_36 18 rfl rfl)
theorem dL_law_1019 : decode cL_law 1019 = .ok (.if_icmp .eq 1105, 3) := dk_159 4 81 (dk_at dksL_law_36 21 rfl rfl)
theorem dL_law_1022 : decode cL_law 1022 = .ok (.iconst 0, 1) := dk_3 (dk_at dksL_law_37 0 rfl rfl)
theorem dL_law_1023 : decode cL_law 1023 = .ok (.ireturn, 1) := dk_172 (dk_at dksL_law_37 1 rfl rfl)
theorem dL_law_1024 : decode cL_law 1024 = .ok (.aload_n 1, 1) := dk_43 (dk_at dksL_law_37 2 rfl rfl)
theorem dL_law_1025 : decode cL_law 1025 = .ok (.aload_n 0, 1) := dk_42 (dk_at dksL_law_37 3 rfl rfl)
theorem dL_law_1026 : decode cL_law 1026 = .ok (.iload 4, 2) := dk_21 4 (dk_at dksL_law_37 4 rfl rfl)
theorem dL_law_1028 : decode cL_law 1028 = .ok (.iconst 1, 1) := dk_4 (dk_at dksL_law_37 6 rfl rfl)
theorem dL_law_1029 : decode cL_law 1029 = .ok (.iadd, 1) := dk_96 (dk_at dksL_law_37 7 rfl rfl)
theorem dL_law_1030 : decode cL_law 1030 = .ok (.iaload, 1) := dk_46 (dk_at dksL_law_37 8 rfl rfl)
theorem dL_law_1031 : decode cL_law 1031 = .ok (.ifCond .eq 7, 3) := dk_153 0 7 (dk_at dksL_law_37 9 rfl rfl)
theorem dL_law_1034 : decode cL_law 1034 = .ok (.iconst 1, 1) := dk_4 (dk_at dksL_law_37 12 rfl rfl)
theorem dL_law_1035 : decode cL_law 1035 = .ok (.goto 4, 3) := dk_167 0 4 (dk_at dksL_law_37 13 rfl rfl)
theorem dL_law_1038 : decode cL_law 1038 = .ok (.iconst 0, 1) := dk_3 (dk_at dksL_law_37 16 rfl rfl)
theorem dL_law_1039 : decode cL_law 1039 = .ok (.aload_n 0, 1) := dk_42 (dk_at dksL_law_37 17 rfl rfl)
theorem dL_law_1040 : decode cL_law 1040 = .ok (.iload 4, 2) := dk_21 4 (dk_at dksL_law_37 18 rfl rfl)
theorem dL_law_1042 : decode cL_law 1042 = .ok (.iconst 2, 1) := dk_5 (dk_at dksL_law_37 20 rfl rfl)
theorem dL_law_1043 : decode cL_law 1043 = .ok (.iadd, 1) := dk_96 (dk_at dksL_law_37 21 rfl rfl)
theorem dL_law_1044 : decode cL_law 1044 = .ok (.iaload, 1) := dk_46 (dk_at dksL_law_37 22 rfl rfl)
theorem dL_law_1045 : decode cL_law 1045 = .ok (.aload_n 0, 1) := dk_42 (dk_at dksL_law_37 23 rfl rfl)
theorem dL_law_1046 : decode cL_law 1046 = .ok (.iload 4, 2) := dk_21 4 (dk_at dksL_law_38 0 rfl rfl)
theorem dL_law_1048 : decode cL_law 1048 = .ok (.iconst 3, 1) := dk_6 (dk_at dksL_law_38 2 rfl rfl)
theorem dL_law_1049 : decode cL_law 1049 = .ok (.iadd, 1) := dk_96 (dk_at dksL_law_38 3 rfl rfl)
theorem dL_law_1050 : decode cL_law 1050 = .ok (.iaload, 1) := dk_46 (dk_at dksL_law_38 4 rfl rfl)
theorem dL_law_1051 : decode cL_law 1051 = .ok (.ifCond .eq 7, 3) := dk_153 0 7 (dk_at dksL_law_38 5 rfl rfl)
theorem dL_law_1054 : decode cL_law 1054 = .ok (.iconst 1, 1) := dk_4 (dk_at dksL_law_38 8 rfl rfl)
theorem dL_law_1055 : decode cL_law 1055 = .ok (.goto 4, 3) := dk_167 0 4 (dk_at dksL_law_38 9 rfl rfl)
theorem dL_law_1058 : decode cL_law 1058 = .ok (.iconst 0, 1) := dk_3 (dk_at dksL_law_38 12 rfl rfl)
theorem dL_law_1059 : decode cL_law 1059 = .ok (.aload_n 3, 1) := dk_45 (dk_at dksL_law_38 13 rfl rfl)
theorem dL_law_1060 : decode cL_law 1060 = .ok (.invokestatic 155, 3) := dk_184 0 155 (dk_at dksL_law_38 14 rfl rfl)
theorem dL_law_1063 : decode cL_law 1063 = .ok (.istore 5, 2) := dk_54 5 (dk_at dksL_law_38 17 rfl rfl)
theorem dL_law_1065 : decode cL_law 1065 = .ok (.aload_n 2, 1) := dk_44 (dk_at dksL_law_38 19 rfl rfl)
theorem dL_law_1066 : decode cL_law 1066 = .ok (.aload_n 0, 1) := dk_42 (dk_at dksL_law_38 20 rfl rfl)
theorem dL_law_1067 : decode cL_law 1067 = .ok (.iload 4, 2) := dk_21 4 (dk_at dksL_law_38 21 rfl rfl)
theorem dL_law_1069 : decode cL_law 1069 = .ok (.iconst 1, 1) := dk_4 (dk_at dksL_law_38 23 rfl rfl)
theorem dL_law_1070 : decode cL_law 1070 = .ok (.iadd, 1) := dk_96 (dk_at dksL_law_39 0 rfl rfl)
theorem dL_law_1071 : decode cL_law 1071 = .ok (.iaload, 1) := dk_46 (dk_at dksL_law_39 1 rfl rfl)
theorem dL_law_1072 : decode cL_law 1072 = .ok (.ifCond .eq 7, 3) := dk_153 0 7 (dk_at dksL_law_39 2 rfl rfl)
theorem dL_law_1075 : decode cL_law 1075 = .ok (.iconst 1, 1) := dk_4 (dk_at dksL_law_39 5 rfl rfl)
theorem dL_law_1076 : decode cL_law 1076 = .ok (.goto 4, 3) := dk_167 0 4 (dk_at dksL_law_39 6 rfl rfl)
theorem dL_law_1079 : decode cL_law 1079 = .ok (.iconst 0, 1) := dk_3 (dk_at dksL_law_39 9 rfl rfl)
theorem dL_law_1080 : decode cL_law 1080 = .ok (.aload_n 0, 1) := dk_42 (dk_at dksL_law_39 10 rfl rfl)
theorem dL_law_1081 : decode cL_law 1081 = .ok (.iload 4, 2) := dk_21 4 (dk_at dksL_law_39 11 rfl rfl)
theorem dL_law_1083 : decode cL_law 1083 = .ok (.iconst 2, 1) := dk_5 (dk_at dksL_law_39 13 rfl rfl)
theorem dL_law_1084 : decode cL_law 1084 = .ok (.iadd, 1) := dk_96 (dk_at dksL_law_39 14 rfl rfl)
theorem dL_law_1085 : decode cL_law 1085 = .ok (.iaload, 1) := dk_46 (dk_at dksL_law_39 15 rfl rfl)
theorem dL_law_1086 : decode cL_law 1086 = .ok (.aload_n 0, 1) := dk_42 (dk_at dksL_law_39 16 rfl rfl)
theorem dL_law_1087 : decode cL_law 1087 = .ok (.iload 4, 2) := dk_21 4 (dk_at dksL_law_39 17 rfl rfl)
theorem dL_law_1089 : decode cL_law 1089 = .ok (.iconst 3, 1) := dk_6 (dk_at dksL_law_39 19 rfl rfl)
theorem dL_law_1090 : decode cL_law 1090 = .ok (.iadd, 1) := dk_96 (dk_at dksL_law_39 20 rfl rfl)
theorem dL_law_1091 : decode cL_law 1091 = .ok (.iaload, 1) := dk_46 (dk_at dksL_law_39 21 rfl rfl)
theorem dL_law_1092 : decode cL_law 1092 = .ok (.ifCond .eq 7, 3) := dk_153 0 7 (dk_at dksL_law_40 0 rfl rfl)
theorem dL_law_1095 : decode cL_law 1095 = .ok (.iconst 1, 1) := dk_4 (dk_at dksL_law_40 3 rfl rfl)
theorem dL_law_1096 : decode cL_law 1096 = .ok (.goto 4, 3) := dk_167 0 4 (dk_at dksL_law_40 4 rfl rfl)
theorem dL_law_1099 : decode cL_law 1099 = .ok (.iconst 0, 1) := dk_3 (dk_at dksL_law_40 7 rfl rfl)
theorem dL_law_1100 : decode cL_law 1100 = .ok (.invokevirtual 158, 3) := dk_182 0 158 (dk_at dksL_law_40 8 rfl rfl)
theorem dL_law_1103 : decode cL_law 1103 = .ok (.lstore 6, 2) := dk_55 6 (dk_at dksL_law_40 11 rfl rfl)
theorem dL_law_1105 : decode cL_law 1105 = .ok (.aload_n 2, 1) := dk_44 (dk_at dksL_law_40 13 rfl rfl)
theorem dL_law_1106 : decode cL_law 1106 = .ok (.invokevirtual 99, 3) := dk_182 0 99 (dk_at dksL_law_40 14 rfl rfl)
theorem dL_law_1109 : decode cL_law 1109 = .ok (.iload 5, 2) := dk_21 5 (dk_at dksL_law_40 17 rfl rfl)
theorem dL_law_1111 : decode cL_law 1111 = .ok (.if_icmp .eq 5, 3) := dk_159 0 5 (dk_at dksL_law_40 19 rfl rfl)
theorem dL_law_1114 : decode cL_law 1114 = .ok (.iconst 0, 1) := dk_3 (dk_at dksL_law_40 22 rfl rfl)
theorem dL_law_1115 : decode cL_law 1115 = .ok (.ireturn, 1) := dk_172 (dk_at dksL_law_40 23 rfl rfl)
theorem dL_law_1116 : decode cL_law 1116 = .ok (.iload 5, 2) := dk_21 5 (dk_at dksL_law_41 0 rfl rfl)
theorem dL_law_1118 : decode cL_law 1118 = .ok (.ifCond .ne 14, 3) := dk_154 0 14 (dk_at dksL_law_41 2 rfl rfl)
theorem dL_law_1121 : decode cL_law 1121 = .ok (.aload_n 3, 1) := dk_45 (dk_at dksL_law_41 5 rfl rfl)
theorem dL_law_1122 : decode cL_law 1122 = .ok (.iconst 0, 1) := dk_3 (dk_at dksL_law_41 6 rfl rfl)
theorem dL_law_1123 : decode cL_law 1123 = .ok (.laload, 1) := dk_47 (dk_at dksL_law_41 7 rfl rfl)
theorem dL_law_1124 : decode cL_law 1124 = .ok (.lload 6, 2) := dk_22 6 (dk_at dksL_law_41 8 rfl rfl)
theorem dL_law_1126 : decode cL_law 1126 = .ok (.lcmp, 1) := dk_148 (dk_at dksL_law_41 10 rfl rfl)
theorem dL_law_1127 : decode cL_law 1127 = .ok (.ifCond .eq 5, 3) := dk_153 0 5 (dk_at dksL_law_41 11 rfl rfl)
theorem dL_law_1130 : decode cL_law 1130 = .ok (.iconst 0, 1) := dk_3 (dk_at dksL_law_41 14 rfl rfl)
theorem dL_law_1131 : decode cL_law 1131 = .ok (.ireturn, 1) := dk_172 (dk_at dksL_law_41 15 rfl rfl)
theorem dL_law_1132 : decode cL_law 1132 = .ok (.goto 992, 3) := dk_167 3 224 (dk_at dksL_law_41 16 rfl rfl)
theorem dL_law_1135 : decode cL_law 1135 = .ok (.aload_n 1, 1) := dk_43 (dk_at dksL_law_41 19 rfl rfl)
theorem dL_law_1136 : decode cL_law 1136 = .ok (.invokevirtual 159, 3) := dk_182 0 159 (dk_at dksL_law_41 20 rfl rfl)
theorem dL_law_1139 : decode cL_law 1139 = .ok (.aload_n 2, 1) := dk_44 (dk_at dksL_law_41 23 rfl rfl)
theorem dL_law_1140 : decode cL_law 1140 = .ok (.invokevirtual 162, 3) := dk_182 0 162 (dk_at dksL_law_42 0 rfl rfl)
theorem dL_law_1143 : decode cL_law 1143 = .ok (.if_icmp .eq 981, 3) := dk_159 3 213 (dk_at dksL_law_42 3 rfl rfl)
theorem dL_law_1146 : decode cL_law 1146 = .ok (.iconst 0, 1) := dk_3 (dk_at dksL_law_42 6 rfl rfl)
theorem dL_law_1147 : decode cL_law 1147 = .ok (.ireturn, 1) := dk_172 (dk_at dksL_law_42 7 rfl rfl)
theorem dL_law_1148 : decode cL_law 1148 = .ok (.aload_n 1, 1) := dk_43 (dk_at dksL_law_42 8 rfl rfl)
theorem dL_law_1149 : decode cL_law 1149 = .ok (.aload_n 0, 1) := dk_42 (dk_at dksL_law_42 9 rfl rfl)
theorem dL_law_1150 : decode cL_law 1150 = .ok (.iload 4, 2) := dk_21 4 (dk_at dksL_law_42 10 rfl rfl)
theorem dL_law_1152 : decode cL_law 1152 = .ok (.iconst 1, 1) := dk_4 (dk_at dksL_law_42 12 rfl rfl)
theorem dL_law_1153 : decode cL_law 1153 = .ok (.iadd, 1) := dk_96 (dk_at dksL_law_42 13 rfl rfl)
theorem dL_law_1154 : decode cL_law 1154 = .ok (.iaload, 1) := dk_46 (dk_at dksL_law_42 14 rfl rfl)
theorem dL_law_1155 : decode cL_law 1155 = .ok (.aload_n 3, 1) := dk_45 (dk_at dksL_law_42 15 rfl rfl)
theorem dL_law_1156 : decode cL_law 1156 = .ok (.invokestatic 163, 3) := dk_184 0 163 (dk_at dksL_law_42 16 rfl rfl)
theorem dL_law_1159 : decode cL_law 1159 = .ok (.istore 5, 2) := dk_54 5 (dk_at dksL_law_42 19 rfl rfl)
theorem dL_law_1161 : decode cL_law 1161 = .ok (.aload_n 2, 1) := dk_44 (dk_at dksL_law_42 21 rfl rfl)
theorem dL_law_1162 : decode cL_law 1162 = .ok (.aload_n 0, 1) := dk_42 (dk_at dksL_law_42 22 rfl rfl)
theorem dL_law_1163 : decode cL_law 1163 = .ok (.iload 4, 2) := dk_21 4 (dk_at dksL_law_43 0 rfl rfl)
theorem dL_law_1165 : decode cL_law 1165 = .ok (.iconst 1, 1) := dk_4 (dk_at dksL_law_43 2 rfl rfl)
theorem dL_law_1166 : decode cL_law 1166 = .ok (.iadd, 1) := dk_96 (dk_at dksL_law_43 3 rfl rfl)
theorem dL_law_1167 : decode cL_law 1167 = .ok (.iaload, 1) := dk_46 (dk_at dksL_law_43 4 rfl rfl)
theorem dL_law_1168 : decode cL_law 1168 = .ok (.invokevirtual 165, 3) := dk_182 0 165 (dk_at dksL_law_43 5 rfl rfl)
theorem dL_law_1171 : decode cL_law 1171 = .ok (.istore 6, 2) := dk_54 6 (dk_at dksL_law_43 8 rfl rfl)
theorem dL_law_1173 : decode cL_law 1173 = .ok (.aload_n 2, 1) := dk_44 (dk_at dksL_law_43 10 rfl rfl)
theorem dL_law_1174 : decode cL_law 1174 = .ok (.invokevirtual 99, 3) := dk_182 0 99 (dk_at dksL_law_43 11 rfl rfl)
theorem dL_law_1177 : decode cL_law 1177 = .ok (.iload 5, 2) := dk_21 5 (dk_at dksL_law_43 14 rfl rfl)
theorem dL_law_1179 : decode cL_law 1179 = .ok (.if_icmp .eq 5, 3) := dk_159 0 5 (dk_at dksL_law_43 16 rfl rfl)
theorem dL_law_1182 : decode cL_law 1182 = .ok (.iconst 0, 1) := dk_3 (dk_at dksL_law_43 19 rfl rfl)
theorem dL_law_1183 : decode cL_law 1183 = .ok (.ireturn, 1) := dk_172 (dk_at dksL_law_43 20 rfl rfl)
theorem dL_law_1184 : decode cL_law 1184 = .ok (.iload 5, 2) := dk_21 5 (dk_at dksL_law_43 21 rfl rfl)
theorem dL_law_1186 : decode cL_law 1186 = .ok (.ifCond .ne 15, 3) := dk_154 0 15 (dk_at dksL_law_44 0 rfl rfl)
theorem dL_law_1189 : decode cL_law 1189 = .ok (.aload_n 3, 1) := dk_45 (dk_at dksL_law_44 3 rfl rfl)
theorem dL_law_1190 : decode cL_law 1190 = .ok (.iconst 0, 1) := dk_3 (dk_at dksL_law_44 4 rfl rfl)
theorem dL_law_1191 : decode cL_law 1191 = .ok (.laload, 1) := dk_47 (dk_at dksL_law_44 5 rfl rfl)
theorem dL_law_1192 : decode cL_law 1192 = .ok (.iload 6, 2) := dk_21 6 (dk_at dksL_law_44 6 rfl rfl)
theorem dL_law_1194 : decode cL_law 1194 = .ok (.i2l, 1) := dk_133 (dk_at dksL_law_44 8 rfl rfl)
theorem dL_law_1195 : decode cL_law 1195 = .ok (.lcmp, 1) := dk_148 (dk_at dksL_law_44 9 rfl rfl)
theorem dL_law_1196 : decode cL_law 1196 = .ok (.ifCond .eq 5, 3) := dk_153 0 5 (dk_at dksL_law_44 10 rfl rfl)
theorem dL_law_1199 : decode cL_law 1199 = .ok (.iconst 0, 1) := dk_3 (dk_at dksL_law_44 13 rfl rfl)
theorem dL_law_1200 : decode cL_law 1200 = .ok (.ireturn, 1) := dk_172 (dk_at dksL_law_44 14 rfl rfl)
theorem dL_law_1201 : decode cL_law 1201 = .ok (.goto 923, 3) := dk_167 3 155 (dk_at dksL_law_44 15 rfl rfl)
theorem dL_law_1204 : decode cL_law 1204 = .ok (.aload_n 1, 1) := dk_43 (dk_at dksL_law_44 18 rfl rfl)
theorem dL_law_1205 : decode cL_law 1205 = .ok (.aload_n 0, 1) := dk_42 (dk_at dksL_law_44 19 rfl rfl)
theorem dL_law_1206 : decode cL_law 1206 = .ok (.iload 4, 2) := dk_21 4 (dk_at dksL_law_44 20 rfl rfl)
theorem dL_law_1208 : decode cL_law 1208 = .ok (.iconst 1, 1) := dk_4 (dk_at dksL_law_44 22 rfl rfl)
theorem dL_law_1209 : decode cL_law 1209 = .ok (.iadd, 1) := dk_96 (dk_at dksL_law_44 23 rfl rfl)
theorem dL_law_1210 : decode cL_law 1210 = .ok (.iaload, 1) := dk_46 (dk_at dksL_law_45 0 rfl rfl)
theorem dL_law_1211 : decode cL_law 1211 = .ok (.aload_n 3, 1) := dk_45 (dk_at dksL_law_45 1 rfl rfl)
theorem dL_law_1212 : decode cL_law 1212 = .ok (.invokestatic 166, 3) := dk_184 0 166 (dk_at dksL_law_45 2 rfl rfl)
theorem dL_law_1215 : decode cL_law 1215 = .ok (.istore 5, 2) := dk_54 5 (dk_at dksL_law_45 5 rfl rfl)
theorem dL_law_1217 : decode cL_law 1217 = .ok (.aload_n 2, 1) := dk_44 (dk_at dksL_law_45 7 rfl rfl)
theorem dL_law_1218 : decode cL_law 1218 = .ok (.aload_n 0, 1) := dk_42 (dk_at dksL_law_45 8 rfl rfl)
theorem dL_law_1219 : decode cL_law 1219 = .ok (.iload 4, 2) := dk_21 4 (dk_at dksL_law_45 9 rfl rfl)
theorem dL_law_1221 : decode cL_law 1221 = .ok (.iconst 1, 1) := dk_4 (dk_at dksL_law_45 11 rfl rfl)
theorem dL_law_1222 : decode cL_law 1222 = .ok (.iadd, 1) := dk_96 (dk_at dksL_law_45 12 rfl rfl)
theorem dL_law_1223 : decode cL_law 1223 = .ok (.iaload, 1) := dk_46 (dk_at dksL_law_45 13 rfl rfl)
theorem dL_law_1224 : decode cL_law 1224 = .ok (.invokevirtual 168, 3) := dk_182 0 168 (dk_at dksL_law_45 14 rfl rfl)
theorem dL_law_1227 : decode cL_law 1227 = .ok (.istore 6, 2) := dk_54 6 (dk_at dksL_law_45 17 rfl rfl)
theorem dL_law_1229 : decode cL_law 1229 = .ok (.aload_n 2, 1) := dk_44 (dk_at dksL_law_45 19 rfl rfl)
theorem dL_law_1230 : decode cL_law 1230 = .ok (.invokevirtual 99, 3) := dk_182 0 99 (dk_at dksL_law_45 20 rfl rfl)
theorem dL_law_1233 : decode cL_law 1233 = .ok (.iload 5, 2) := dk_21 5 (dk_at dksL_law_46 0 rfl rfl)
theorem dL_law_1235 : decode cL_law 1235 = .ok (.if_icmp .eq 5, 3) := dk_159 0 5 (dk_at dksL_law_46 2 rfl rfl)
theorem dL_law_1238 : decode cL_law 1238 = .ok (.iconst 0, 1) := dk_3 (dk_at dksL_law_46 5 rfl rfl)
theorem dL_law_1239 : decode cL_law 1239 = .ok (.ireturn, 1) := dk_172 (dk_at dksL_law_46 6 rfl rfl)
theorem dL_law_1240 : decode cL_law 1240 = .ok (.iload 5, 2) := dk_21 5 (dk_at dksL_law_46 7 rfl rfl)
theorem dL_law_1242 : decode cL_law 1242 = .ok (.ifCond .ne 15, 3) := dk_154 0 15 (dk_at dksL_law_46 9 rfl rfl)
theorem dL_law_1245 : decode cL_law 1245 = .ok (.aload_n 3, 1) := dk_45 (dk_at dksL_law_46 12 rfl rfl)
theorem dL_law_1246 : decode cL_law 1246 = .ok (.iconst 0, 1) := dk_3 (dk_at dksL_law_46 13 rfl rfl)
theorem dL_law_1247 : decode cL_law 1247 = .ok (.laload, 1) := dk_47 (dk_at dksL_law_46 14 rfl rfl)
theorem dL_law_1248 : decode cL_law 1248 = .ok (.iload 6, 2) := dk_21 6 (dk_at dksL_law_46 15 rfl rfl)
theorem dL_law_1250 : decode cL_law 1250 = .ok (.i2l, 1) := dk_133 (dk_at dksL_law_46 17 rfl rfl)
theorem dL_law_1251 : decode cL_law 1251 = .ok (.lcmp, 1) := dk_148 (dk_at dksL_law_46 18 rfl rfl)
theorem dL_law_1252 : decode cL_law 1252 = .ok (.ifCond .eq 5, 3) := dk_153 0 5 (dk_at dksL_law_46 19 rfl rfl)
theorem dL_law_1255 : decode cL_law 1255 = .ok (.iconst 0, 1) := dk_3 (dk_at dksL_law_46 22 rfl rfl)
theorem dL_law_1256 : decode cL_law 1256 = .ok (.ireturn, 1) := dk_172 (dk_at dksL_law_46 23 rfl rfl)
theorem dL_law_1257 : decode cL_law 1257 = .ok (.goto 867, 3) := dk_167 3 99 (dk_at dksL_law_47 0 rfl rfl)
theorem dL_law_1260 : decode cL_law 1260 = .ok (.aload_n 1, 1) := dk_43 (dk_at dksL_law_47 3 rfl rfl)
theorem dL_law_1261 : decode cL_law 1261 = .ok (.invokevirtual 169, 3) := dk_182 0 169 (dk_at dksL_law_47 4 rfl rfl)
theorem dL_law_1264 : decode cL_law 1264 = .ok (.aload_n 2, 1) := dk_44 (dk_at dksL_law_47 7 rfl rfl)
theorem dL_law_1265 : decode cL_law 1265 = .ok (.invokevirtual 172, 3) := dk_182 0 172 (dk_at dksL_law_47 8 rfl rfl)
theorem dL_law_1268 : decode cL_law 1268 = .ok (.if_icmp .eq 856, 3) := dk_159 3 88 (dk_at dksL_law_47 11 rfl rfl)
theorem dL_law_1271 : decode cL_law 1271 = .ok (.iconst 0, 1) := dk_3 (dk_at dksL_law_47 14 rfl rfl)
theorem dL_law_1272 : decode cL_law 1272 = .ok (.ireturn, 1) := dk_172 (dk_at dksL_law_47 15 rfl rfl)
theorem dL_law_1273 : decode cL_law 1273 = .ok (.aload_n 1, 1) := dk_43 (dk_at dksL_law_47 16 rfl rfl)
theorem dL_law_1274 : decode cL_law 1274 = .ok (.invokevirtual 173, 3) := dk_182 0 173 (dk_at dksL_law_47 17 rfl rfl)
theorem dL_law_1277 : decode cL_law 1277 = .ok (.aload_n 2, 1) := dk_44 (dk_at dksL_law_47 20 rfl rfl)
theorem dL_law_1278 : decode cL_law 1278 = .ok (.invokevirtual 176, 3) := dk_182 0 176 (dk_at dksL_law_47 21 rfl rfl)
theorem dL_law_1281 : decode cL_law 1281 = .ok (.if_icmp .eq 843, 3) := dk_159 3 75 (dk_at dksL_law_48 0 rfl rfl)
theorem dL_law_1284 : decode cL_law 1284 = .ok (.iconst 0, 1) := dk_3 (dk_at dksL_law_48 3 rfl rfl)
theorem dL_law_1285 : decode cL_law 1285 = .ok (.ireturn, 1) := dk_172 (dk_at dksL_law_48 4 rfl rfl)
theorem dL_law_1286 : decode cL_law 1286 = .ok (.aload_n 1, 1) := dk_43 (dk_at dksL_law_48 5 rfl rfl)
theorem dL_law_1287 : decode cL_law 1287 = .ok (.invokevirtual 177, 3) := dk_182 0 177 (dk_at dksL_law_48 6 rfl rfl)
theorem dL_law_1290 : decode cL_law 1290 = .ok (.dstore 5, 2) := dk_57 5 (dk_at dksL_law_48 9 rfl rfl)
theorem dL_law_1292 : decode cL_law 1292 = .ok (.aload_n 2, 1) := dk_44 (dk_at dksL_law_48 11 rfl rfl)
theorem dL_law_1293 : decode cL_law 1293 = .ok (.invokevirtual 181, 3) := dk_182 0 181 (dk_at dksL_law_48 12 rfl rfl)
theorem dL_law_1296 : decode cL_law 1296 = .ok (.dstore 7, 2) := dk_57 7 (dk_at dksL_law_48 15 rfl rfl)
theorem dL_law_1298 : decode cL_law 1298 = .ok (.dload 5, 2) := dk_24 5 (dk_at dksL_law_48 17 rfl rfl)
theorem dL_law_1300 : decode cL_law 1300 = .ok (.dload 7, 2) := dk_24 7 (dk_at dksL_law_48 19 rfl rfl)
theorem dL_law_1302 : decode cL_law 1302 = .ok (.dcmp .l, 1) := dk_151 (dk_at dksL_law_48 21 rfl rfl)
theorem dL_law_1303 : decode cL_law 1303 = .ok (.ifCond .eq 21, 3) := dk_153 0 21 (dk_at dksL_law_49 0 rfl rfl)
theorem dL_law_1306 : decode cL_law 1306 = .ok (.dload 5, 2) := dk_24 5 (dk_at dksL_law_49 3 rfl rfl)
theorem dL_law_1308 : decode cL_law 1308 = .ok (.dload 5, 2) := dk_24 5 (dk_at dksL_law_49 5 rfl rfl)
theorem dL_law_1310 : decode cL_law 1310 = .ok (.dcmp .l, 1) := dk_151 (dk_at dksL_law_49 7 rfl rfl)
theorem dL_law_1311 : decode cL_law 1311 = .ok (.ifCond .eq 11, 3) := dk_153 0 11 (dk_at dksL_law_49 8 rfl rfl)
theorem dL_law_1314 : decode cL_law 1314 = .ok (.dload 7, 2) := dk_24 7 (dk_at dksL_law_49 11 rfl rfl)
theorem dL_law_1316 : decode cL_law 1316 = .ok (.dload 7, 2) := dk_24 7 (dk_at dksL_law_49 13 rfl rfl)
theorem dL_law_1318 : decode cL_law 1318 = .ok (.dcmp .l, 1) := dk_151 (dk_at dksL_law_49 15 rfl rfl)
theorem dL_law_1319 : decode cL_law 1319 = .ok (.ifCond .ne 5, 3) := dk_154 0 5 (dk_at dksL_law_49 16 rfl rfl)
theorem dL_law_1322 : decode cL_law 1322 = .ok (.iconst 0, 1) := dk_3 (dk_at dksL_law_49 19 rfl rfl)
theorem dL_law_1323 : decode cL_law 1323 = .ok (.ireturn, 1) := dk_172 (dk_at dksL_law_49 20 rfl rfl)
theorem dL_law_1324 : decode cL_law 1324 = .ok (.goto 800, 3) := dk_167 3 32 (dk_at dksL_law_49 21 rfl rfl)
theorem dL_law_1327 : decode cL_law 1327 = .ok (.aload_n 1, 1) := dk_43 (dk_at dksL_law_50 0 rfl rfl)
theorem dL_law_1328 : decode cL_law 1328 = .ok (.invokevirtual 182, 3) := dk_182 0 182 (dk_at dksL_law_50 1 rfl rfl)
theorem dL_law_1331 : decode cL_law 1331 = .ok (.f2d, 1) := dk_141 (dk_at dksL_law_50 4 rfl rfl)
theorem dL_law_1332 : decode cL_law 1332 = .ok (.dstore 5, 2) := dk_57 5 (dk_at dksL_law_50 5 rfl rfl)
theorem dL_law_1334 : decode cL_law 1334 = .ok (.aload_n 2, 1) := dk_44 (dk_at dksL_law_50 7 rfl rfl)
theorem dL_law_1335 : decode cL_law 1335 = .ok (.invokevirtual 186, 3) := dk_182 0 186 (dk_at dksL_law_50 8 rfl rfl)
theorem dL_law_1338 : decode cL_law 1338 = .ok (.f2d, 1) := dk_141 (dk_at dksL_law_50 11 rfl rfl)
theorem dL_law_1339 : decode cL_law 1339 = .ok (.dstore 7, 2) := dk_57 7 (dk_at dksL_law_50 12 rfl rfl)
theorem dL_law_1341 : decode cL_law 1341 = .ok (.dload 5, 2) := dk_24 5 (dk_at dksL_law_50 14 rfl rfl)
theorem dL_law_1343 : decode cL_law 1343 = .ok (.dload 7, 2) := dk_24 7 (dk_at dksL_law_50 16 rfl rfl)
theorem dL_law_1345 : decode cL_law 1345 = .ok (.dcmp .l, 1) := dk_151 (dk_at dksL_law_50 18 rfl rfl)
theorem dL_law_1346 : decode cL_law 1346 = .ok (.ifCond .eq 21, 3) := dk_153 0 21 (dk_at dksL_law_50 19 rfl rfl)
theorem dL_law_1349 : decode cL_law 1349 = .ok (.dload 5, 2) := dk_24 5 (dk_at dksL_law_50 22 rfl rfl)
theorem dL_law_1351 : decode cL_law 1351 = .ok (.dload 5, 2) := dk_24 5 (dk_at dksL_law_51 0 rfl rfl)
theorem dL_law_1353 : decode cL_law 1353 = .ok (.dcmp .l, 1) := dk_151 (dk_at dksL_law_51 2 rfl rfl)
theorem dL_law_1354 : decode cL_law 1354 = .ok (.ifCond .eq 11, 3) := dk_153 0 11 (dk_at dksL_law_51 3 rfl rfl)
theorem dL_law_1357 : decode cL_law 1357 = .ok (.dload 7, 2) := dk_24 7 (dk_at dksL_law_51 6 rfl rfl)
theorem dL_law_1359 : decode cL_law 1359 = .ok (.dload 7, 2) := dk_24 7 (dk_at dksL_law_51 8 rfl rfl)
theorem dL_law_1361 : decode cL_law 1361 = .ok (.dcmp .l, 1) := dk_151 (dk_at dksL_law_51 10 rfl rfl)
theorem dL_law_1362 : decode cL_law 1362 = .ok (.ifCond .ne 5, 3) := dk_154 0 5 (dk_at dksL_law_51 11 rfl rfl)
theorem dL_law_1365 : decode cL_law 1365 = .ok (.iconst 0, 1) := dk_3 (dk_at dksL_law_51 14 rfl rfl)
theorem dL_law_1366 : decode cL_law 1366 = .ok (.ireturn, 1) := dk_172 (dk_at dksL_law_51 15 rfl rfl)
theorem dL_law_1367 : decode cL_law 1367 = .ok (.goto 757, 3) := dk_167 2 245 (dk_at dksL_law_51 16 rfl rfl)
theorem dL_law_1370 : decode cL_law 1370 = .ok (.aload_n 1, 1) := dk_43 (dk_at dksL_law_51 19 rfl rfl)
theorem dL_law_1371 : decode cL_law 1371 = .ok (.aload_n 0, 1) := dk_42 (dk_at dksL_law_51 20 rfl rfl)
theorem dL_law_1372 : decode cL_law 1372 = .ok (.iload 4, 2) := dk_21 4 (dk_at dksL_law_51 21 rfl rfl)
theorem dL_law_1374 : decode cL_law 1374 = .ok (.iconst 1, 1) := dk_4 (dk_at dksL_law_51 23 rfl rfl)
theorem dL_law_1375 : decode cL_law 1375 = .ok (.iadd, 1) := dk_96 (dk_at dksL_law_52 0 rfl rfl)
theorem dL_law_1376 : decode cL_law 1376 = .ok (.iaload, 1) := dk_46 (dk_at dksL_law_52 1 rfl rfl)
theorem dL_law_1377 : decode cL_law 1377 = .ok (.aload_n 0, 1) := dk_42 (dk_at dksL_law_52 2 rfl rfl)
theorem dL_law_1378 : decode cL_law 1378 = .ok (.iload 4, 2) := dk_21 4 (dk_at dksL_law_52 3 rfl rfl)
theorem dL_law_1380 : decode cL_law 1380 = .ok (.iconst 2, 1) := dk_5 (dk_at dksL_law_52 5 rfl rfl)
theorem dL_law_1381 : decode cL_law 1381 = .ok (.iadd, 1) := dk_96 (dk_at dksL_law_52 6 rfl rfl)
theorem dL_law_1382 : decode cL_law 1382 = .ok (.iaload, 1) := dk_46 (dk_at dksL_law_52 7 rfl rfl)
theorem dL_law_1383 : decode cL_law 1383 = .ok (.aload_n 0, 1) := dk_42 (dk_at dksL_law_52 8 rfl rfl)
theorem dL_law_1384 : decode cL_law 1384 = .ok (.iload 4, 2) := dk_21 4 (dk_at dksL_law_52 9 rfl rfl)
theorem dL_law_1386 : decode cL_law 1386 = .ok (.iconst 3, 1) := dk_6 (dk_at dksL_law_52 11 rfl rfl)
theorem dL_law_1387 : decode cL_law 1387 = .ok (.iadd, 1) := dk_96 (dk_at dksL_law_52 12 rfl rfl)
theorem dL_law_1388 : decode cL_law 1388 = .ok (.iaload, 1) := dk_46 (dk_at dksL_law_52 13 rfl rfl)
theorem dL_law_1389 : decode cL_law 1389 = .ok (.aload_n 3, 1) := dk_45 (dk_at dksL_law_52 14 rfl rfl)
theorem dL_law_1390 : decode cL_law 1390 = .ok (.invokestatic 187, 3) := dk_184 0 187 (dk_at dksL_law_52 15 rfl rfl)
theorem dL_law_1393 : decode cL_law 1393 = .ok (.istore 5, 2) := dk_54 5 (dk_at dksL_law_52 18 rfl rfl)
theorem dL_law_1395 : decode cL_law 1395 = .ok (.aload_n 2, 1) := dk_44 (dk_at dksL_law_52 20 rfl rfl)
theorem dL_law_1396 : decode cL_law 1396 = .ok (.aload_n 0, 1) := dk_42 (dk_at dksL_law_52 21 rfl rfl)
theorem dL_law_1397 : decode cL_law 1397 = .ok (.iload 4, 2) := dk_21 4 (dk_at dksL_law_52 22 rfl rfl)
theorem dL_law_1399 : decode cL_law 1399 = .ok (.iconst 1, 1) := dk_4 (dk_at dksL_law_53 0 rfl rfl)
theorem dL_law_1400 : decode cL_law 1400 = .ok (.iadd, 1) := dk_96 (dk_at dksL_law_53 1 rfl rfl)
theorem dL_law_1401 : decode cL_law 1401 = .ok (.iaload, 1) := dk_46 (dk_at dksL_law_53 2 rfl rfl)
theorem dL_law_1402 : decode cL_law 1402 = .ok (.aload_n 0, 1) := dk_42 (dk_at dksL_law_53 3 rfl rfl)
theorem dL_law_1403 : decode cL_law 1403 = .ok (.iload 4, 2) := dk_21 4 (dk_at dksL_law_53 4 rfl rfl)
theorem dL_law_1405 : decode cL_law 1405 = .ok (.iconst 2, 1) := dk_5 (dk_at dksL_law_53 6 rfl rfl)
theorem dL_law_1406 : decode cL_law 1406 = .ok (.iadd, 1) := dk_96 (dk_at dksL_law_53 7 rfl rfl)
theorem dL_law_1407 : decode cL_law 1407 = .ok (.iaload, 1) := dk_46 (dk_at dksL_law_53 8 rfl rfl)
theorem dL_law_1408 : decode cL_law 1408 = .ok (.aload_n 0, 1) := dk_42 (dk_at dksL_law_53 9 rfl rfl)
theorem dL_law_1409 : decode cL_law 1409 = .ok (.iload 4, 2) := dk_21 4 (dk_at dksL_law_53 10 rfl rfl)
theorem dL_law_1411 : decode cL_law 1411 = .ok (.iconst 3, 1) := dk_6 (dk_at dksL_law_53 12 rfl rfl)
theorem dL_law_1412 : decode cL_law 1412 = .ok (.iadd, 1) := dk_96 (dk_at dksL_law_53 13 rfl rfl)
theorem dL_law_1413 : decode cL_law 1413 = .ok (.iaload, 1) := dk_46 (dk_at dksL_law_53 14 rfl rfl)
theorem dL_law_1414 : decode cL_law 1414 = .ok (.invokevirtual 190, 3) := dk_182 0 190 (dk_at dksL_law_53 15 rfl rfl)
theorem dL_law_1417 : decode cL_law 1417 = .ok (.istore 6, 2) := dk_54 6 (dk_at dksL_law_53 18 rfl rfl)
theorem dL_law_1419 : decode cL_law 1419 = .ok (.aload_n 2, 1) := dk_44 (dk_at dksL_law_53 20 rfl rfl)
theorem dL_law_1420 : decode cL_law 1420 = .ok (.invokevirtual 99, 3) := dk_182 0 99 (dk_at dksL_law_53 21 rfl rfl)
theorem dL_law_1423 : decode cL_law 1423 = .ok (.iload 5, 2) := dk_21 5 (dk_at dksL_law_54 0 rfl rfl)
theorem dL_law_1425 : decode cL_law 1425 = .ok (.if_icmp .eq 5, 3) := dk_159 0 5 (dk_at dksL_law_54 2 rfl rfl)
theorem dL_law_1428 : decode cL_law 1428 = .ok (.iconst 0, 1) := dk_3 (dk_at dksL_law_54 5 rfl rfl)
theorem dL_law_1429 : decode cL_law 1429 = .ok (.ireturn, 1) := dk_172 (dk_at dksL_law_54 6 rfl rfl)
theorem dL_law_1430 : decode cL_law 1430 = .ok (.iload 5, 2) := dk_21 5 (dk_at dksL_law_54 7 rfl rfl)
theorem dL_law_1432 : decode cL_law 1432 = .ok (.ifCond .ne 15, 3) := dk_154 0 15 (dk_at dksL_law_54 9 rfl rfl)
theorem dL_law_1435 : decode cL_law 1435 = .ok (.aload_n 3, 1) := dk_45 (dk_at dksL_law_54 12 rfl rfl)
theorem dL_law_1436 : decode cL_law 1436 = .ok (.iconst 0, 1) := dk_3 (dk_at dksL_law_54 13 rfl rfl)
theorem dL_law_1437 : decode cL_law 1437 = .ok (.laload, 1) := dk_47 (dk_at dksL_law_54 14 rfl rfl)
theorem dL_law_1438 : decode cL_law 1438 = .ok (.iload 6, 2) := dk_21 6 (dk_at dksL_law_54 15 rfl rfl)
theorem dL_law_1440 : decode cL_law 1440 = .ok (.i2l, 1) := dk_133 (dk_at dksL_law_54 17 rfl rfl)
theorem dL_law_1441 : decode cL_law 1441 = .ok (.lcmp, 1) := dk_148 (dk_at dksL_law_54 18 rfl rfl)
theorem dL_law_1442 : decode cL_law 1442 = .ok (.ifCond .eq 5, 3) := dk_153 0 5 (dk_at dksL_law_54 19 rfl rfl)
theorem dL_law_1445 : decode cL_law 1445 = .ok (.iconst 0, 1) := dk_3 (dk_at dksL_law_54 22 rfl rfl)
theorem dL_law_1446 : decode cL_law 1446 = .ok (.ireturn, 1) := dk_172 (dk_at dksL_law_54 23 rfl rfl)
theorem dL_law_1447 : decode cL_law 1447 = .ok (.goto 677, 3) := dk_167 2 165 (dk_at dksL_law_55 0 rfl rfl)
theorem dL_law_1450 : decode cL_law 1450 = .ok (.aload_n 1, 1) := dk_43 (dk_at dksL_law_55 3 rfl rfl)
theorem dL_law_1451 : decode cL_law 1451 = .ok (.aload_n 0, 1) := dk_42 (dk_at dksL_law_55 4 rfl rfl)
theorem dL_law_1452 : decode cL_law 1452 = .ok (.iload 4, 2) := dk_21 4 (dk_at dksL_law_55 5 rfl rfl)
theorem dL_law_1454 : decode cL_law 1454 = .ok (.iconst 1, 1) := dk_4 (dk_at dksL_law_55 7 rfl rfl)
theorem dL_law_1455 : decode cL_law 1455 = .ok (.iadd, 1) := dk_96 (dk_at dksL_law_55 8 rfl rfl)
theorem dL_law_1456 : decode cL_law 1456 = .ok (.iaload, 1) := dk_46 (dk_at dksL_law_55 9 rfl rfl)
theorem dL_law_1457 : decode cL_law 1457 = .ok (.aload_n 3, 1) := dk_45 (dk_at dksL_law_55 10 rfl rfl)
theorem dL_law_1458 : decode cL_law 1458 = .ok (.invokestatic 191, 3) := dk_184 0 191 (dk_at dksL_law_55 11 rfl rfl)
theorem dL_law_1461 : decode cL_law 1461 = .ok (.istore 5, 2) := dk_54 5 (dk_at dksL_law_55 14 rfl rfl)
theorem dL_law_1463 : decode cL_law 1463 = .ok (.aload_n 2, 1) := dk_44 (dk_at dksL_law_55 16 rfl rfl)
theorem dL_law_1464 : decode cL_law 1464 = .ok (.aload_n 0, 1) := dk_42 (dk_at dksL_law_55 17 rfl rfl)
theorem dL_law_1465 : decode cL_law 1465 = .ok (.iload 4, 2) := dk_21 4 (dk_at dksL_law_55 18 rfl rfl)
theorem dL_law_1467 : decode cL_law 1467 = .ok (.iconst 1, 1) := dk_4 (dk_at dksL_law_55 20 rfl rfl)
theorem dL_law_1468 : decode cL_law 1468 = .ok (.iadd, 1) := dk_96 (dk_at dksL_law_55 21 rfl rfl)
theorem dL_law_1469 : decode cL_law 1469 = .ok (.iaload, 1) := dk_46 (dk_at dksL_law_55 22 rfl rfl)
theorem dL_law_1470 : decode cL_law 1470 = .ok (.invokevirtual 193, 3) := dk_182 0 193 (dk_at dksL_law_56 0 rfl rfl)
theorem dL_law_1473 : decode cL_law 1473 = .ok (.istore 6, 2) := dk_54 6 (dk_at dksL_law_56 3 rfl rfl)
theorem dL_law_1475 : decode cL_law 1475 = .ok (.aload_n 2, 1) := dk_44 (dk_at dksL_law_56 5 rfl rfl)
theorem dL_law_1476 : decode cL_law 1476 = .ok (.invokevirtual 99, 3) := dk_182 0 99 (dk_at dksL_law_56 6 rfl rfl)
theorem dL_law_1479 : decode cL_law 1479 = .ok (.iload 5, 2) := dk_21 5 (dk_at dksL_law_56 9 rfl rfl)
theorem dL_law_1481 : decode cL_law 1481 = .ok (.if_icmp .eq 5, 3) := dk_159 0 5 (dk_at dksL_law_56 11 rfl rfl)
theorem dL_law_1484 : decode cL_law 1484 = .ok (.iconst 0, 1) := dk_3 (dk_at dksL_law_56 14 rfl rfl)
theorem dL_law_1485 : decode cL_law 1485 = .ok (.ireturn, 1) := dk_172 (dk_at dksL_law_56 15 rfl rfl)
theorem dL_law_1486 : decode cL_law 1486 = .ok (.iload 5, 2) := dk_21 5 (dk_at dksL_law_56 16 rfl rfl)
theorem dL_law_1488 : decode cL_law 1488 = .ok (.ifCond .ne 15, 3) := dk_154 0 15 (dk_at dksL_law_56 18 rfl rfl)
theorem dL_law_1491 : decode cL_law 1491 = .ok (.aload_n 3, 1) := dk_45 (dk_at dksL_law_56 21 rfl rfl)
theorem dL_law_1492 : decode cL_law 1492 = .ok (.iconst 0, 1) := dk_3 (dk_at dksL_law_56 22 rfl rfl)
theorem dL_law_1493 : decode cL_law 1493 = .ok (.laload, 1) := dk_47 (dk_at dksL_law_56 23 rfl rfl)
theorem dL_law_1494 : decode cL_law 1494 = .ok (.iload 6, 2) := dk_21 6 (dk_at dksL_law_57 0 rfl rfl)
theorem dL_law_1496 : decode cL_law 1496 = .ok (.i2l, 1) := dk_133 (dk_at dksL_law_57 2 rfl rfl)
theorem dL_law_1497 : decode cL_law 1497 = .ok (.lcmp, 1) := dk_148 (dk_at dksL_law_57 3 rfl rfl)
theorem dL_law_1498 : decode cL_law 1498 = .ok (.ifCond .eq 5, 3) := dk_153 0 5 (dk_at dksL_law_57 4 rfl rfl)
theorem dL_law_1501 : decode cL_law 1501 = .ok (.iconst 0, 1) := dk_3 (dk_at dksL_law_57 7 rfl rfl)
theorem dL_law_1502 : decode cL_law 1502 = .ok (.ireturn, 1) := dk_172 (dk_at dksL_law_57 8 rfl rfl)
theorem dL_law_1503 : decode cL_law 1503 = .ok (.goto 621, 3) := dk_167 2 109 (dk_at dksL_law_57 9 rfl rfl)
theorem dL_law_1506 : decode cL_law 1506 = .ok (.aload_n 1, 1) := dk_43 (dk_at dksL_law_57 12 rfl rfl)
theorem dL_law_1507 : decode cL_law 1507 = .ok (.aload_n 0, 1) := dk_42 (dk_at dksL_law_57 13 rfl rfl)
theorem dL_law_1508 : decode cL_law 1508 = .ok (.iload 4, 2) := dk_21 4 (dk_at dksL_law_57 14 rfl rfl)
theorem dL_law_1510 : decode cL_law 1510 = .ok (.iconst 1, 1) := dk_4 (dk_at dksL_law_57 16 rfl rfl)
theorem dL_law_1511 : decode cL_law 1511 = .ok (.iadd, 1) := dk_96 (dk_at dksL_law_57 17 rfl rfl)
theorem dL_law_1512 : decode cL_law 1512 = .ok (.iaload, 1) := dk_46 (dk_at dksL_law_57 18 rfl rfl)
theorem dL_law_1513 : decode cL_law 1513 = .ok (.aload_n 3, 1) := dk_45 (dk_at dksL_law_57 19 rfl rfl)
theorem dL_law_1514 : decode cL_law 1514 = .ok (.invokestatic 194, 3) := dk_184 0 194 (dk_at dksL_law_57 20 rfl rfl)
theorem dL_law_1517 : decode cL_law 1517 = .ok (.istore 5, 2) := dk_54 5 (dk_at dksL_law_58 0 rfl rfl)
theorem dL_law_1519 : decode cL_law 1519 = .ok (.aload_n 2, 1) := dk_44 (dk_at dksL_law_58 2 rfl rfl)
theorem dL_law_1520 : decode cL_law 1520 = .ok (.aload_n 0, 1) := dk_42 (dk_at dksL_law_58 3 rfl rfl)
theorem dL_law_1521 : decode cL_law 1521 = .ok (.iload 4, 2) := dk_21 4 (dk_at dksL_law_58 4 rfl rfl)
theorem dL_law_1523 : decode cL_law 1523 = .ok (.iconst 1, 1) := dk_4 (dk_at dksL_law_58 6 rfl rfl)
theorem dL_law_1524 : decode cL_law 1524 = .ok (.iadd, 1) := dk_96 (dk_at dksL_law_58 7 rfl rfl)
theorem dL_law_1525 : decode cL_law 1525 = .ok (.iaload, 1) := dk_46 (dk_at dksL_law_58 8 rfl rfl)
theorem dL_law_1526 : decode cL_law 1526 = .ok (.invokevirtual 196, 3) := dk_182 0 196 (dk_at dksL_law_58 9 rfl rfl)
theorem dL_law_1529 : decode cL_law 1529 = .ok (.istore 6, 2) := dk_54 6 (dk_at dksL_law_58 12 rfl rfl)
theorem dL_law_1531 : decode cL_law 1531 = .ok (.aload_n 2, 1) := dk_44 (dk_at dksL_law_58 14 rfl rfl)
theorem dL_law_1532 : decode cL_law 1532 = .ok (.invokevirtual 99, 3) := dk_182 0 99 (dk_at dksL_law_58 15 rfl rfl)
theorem dL_law_1535 : decode cL_law 1535 = .ok (.iload 5, 2) := dk_21 5 (dk_at dksL_law_58 18 rfl rfl)
theorem dL_law_1537 : decode cL_law 1537 = .ok (.if_icmp .eq 5, 3) := dk_159 0 5 (dk_at dksL_law_58 20 rfl rfl)
theorem dL_law_1540 : decode cL_law 1540 = .ok (.iconst 0, 1) := dk_3 (dk_at dksL_law_58 23 rfl rfl)
theorem dL_law_1541 : decode cL_law 1541 = .ok (.ireturn, 1) := dk_172 (dk_at dksL_law_59 0 rfl rfl)
theorem dL_law_1542 : decode cL_law 1542 = .ok (.iload 5, 2) := dk_21 5 (dk_at dksL_law_59 1 rfl rfl)
theorem dL_law_1544 : decode cL_law 1544 = .ok (.ifCond .ne 15, 3) := dk_154 0 15 (dk_at dksL_law_59 3 rfl rfl)
theorem dL_law_1547 : decode cL_law 1547 = .ok (.aload_n 3, 1) := dk_45 (dk_at dksL_law_59 6 rfl rfl)
theorem dL_law_1548 : decode cL_law 1548 = .ok (.iconst 0, 1) := dk_3 (dk_at dksL_law_59 7 rfl rfl)
theorem dL_law_1549 : decode cL_law 1549 = .ok (.laload, 1) := dk_47 (dk_at dksL_law_59 8 rfl rfl)
theorem dL_law_1550 : decode cL_law 1550 = .ok (.iload 6, 2) := dk_21 6 (dk_at dksL_law_59 9 rfl rfl)
theorem dL_law_1552 : decode cL_law 1552 = .ok (.i2l, 1) := dk_133 (dk_at dksL_law_59 11 rfl rfl)
theorem dL_law_1553 : decode cL_law 1553 = .ok (.lcmp, 1) := dk_148 (dk_at dksL_law_59 12 rfl rfl)
theorem dL_law_1554 : decode cL_law 1554 = .ok (.ifCond .eq 5, 3) := dk_153 0 5 (dk_at dksL_law_59 13 rfl rfl)
theorem dL_law_1557 : decode cL_law 1557 = .ok (.iconst 0, 1) := dk_3 (dk_at dksL_law_59 16 rfl rfl)
theorem dL_law_1558 : decode cL_law 1558 = .ok (.ireturn, 1) := dk_172 (dk_at dksL_law_59 17 rfl rfl)
theorem dL_law_1559 : decode cL_law 1559 = .ok (.goto 565, 3) := dk_167 2 53 (dk_at dksL_law_59 18 rfl rfl)
theorem dL_law_1562 : decode cL_law 1562 = .ok (.aload_n 1, 1) := dk_43 (dk_at dksL_law_59 21 rfl rfl)
theorem dL_law_1563 : decode cL_law 1563 = .ok (.aload_n 0, 1) := dk_42 (dk_at dksL_law_59 22 rfl rfl)
theorem dL_law_1564 : decode cL_law 1564 = .ok (.iload 4, 2) := dk_21 4 (dk_at dksL_law_60 0 rfl rfl)
theorem dL_law_1566 : decode cL_law 1566 = .ok (.iconst 1, 1) := dk_4 (dk_at dksL_law_60 2 rfl rfl)
theorem dL_law_1567 : decode cL_law 1567 = .ok (.iadd, 1) := dk_96 (dk_at dksL_law_60 3 rfl rfl)
theorem dL_law_1568 : decode cL_law 1568 = .ok (.iaload, 1) := dk_46 (dk_at dksL_law_60 4 rfl rfl)
theorem dL_law_1569 : decode cL_law 1569 = .ok (.ifCond .eq 7, 3) := dk_153 0 7 (dk_at dksL_law_60 5 rfl rfl)
theorem dL_law_1572 : decode cL_law 1572 = .ok (.iconst 1, 1) := dk_4 (dk_at dksL_law_60 8 rfl rfl)
theorem dL_law_1573 : decode cL_law 1573 = .ok (.goto 4, 3) := dk_167 0 4 (dk_at dksL_law_60 9 rfl rfl)
theorem dL_law_1576 : decode cL_law 1576 = .ok (.iconst 0, 1) := dk_3 (dk_at dksL_law_60 12 rfl rfl)
theorem dL_law_1577 : decode cL_law 1577 = .ok (.invokevirtual 197, 3) := dk_182 0 197 (dk_at dksL_law_60 13 rfl rfl)
theorem dL_law_1580 : decode cL_law 1580 = .ok (.aload_n 2, 1) := dk_44 (dk_at dksL_law_60 16 rfl rfl)
theorem dL_law_1581 : decode cL_law 1581 = .ok (.aload_n 0, 1) := dk_42 (dk_at dksL_law_60 17 rfl rfl)
theorem dL_law_1582 : decode cL_law 1582 = .ok (.iload 4, 2) := dk_21 4 (dk_at dksL_law_60 18 rfl rfl)
theorem dL_law_1584 : decode cL_law 1584 = .ok (.iconst 1, 1) := dk_4 (dk_at dksL_law_60 20 rfl rfl)
theorem dL_law_1585 : decode cL_law 1585 = .ok (.iadd, 1) := dk_96 (dk_at dksL_law_60 21 rfl rfl)
theorem dL_law_1586 : decode cL_law 1586 = .ok (.iaload, 1) := dk_46 (dk_at dksL_law_60 22 rfl rfl)
theorem dL_law_1587 : decode cL_law 1587 = .ok (.ifCond .eq 7, 3) := dk_153 0 7 (dk_at dksL_law_61 0 rfl rfl)
theorem dL_law_1590 : decode cL_law 1590 = .ok (.iconst 1, 1) := dk_4 (dk_at dksL_law_61 3 rfl rfl)
theorem dL_law_1591 : decode cL_law 1591 = .ok (.goto 4, 3) := dk_167 0 4 (dk_at dksL_law_61 4 rfl rfl)
theorem dL_law_1594 : decode cL_law 1594 = .ok (.iconst 0, 1) := dk_3 (dk_at dksL_law_61 7 rfl rfl)
theorem dL_law_1595 : decode cL_law 1595 = .ok (.invokevirtual 201, 3) := dk_182 0 201 (dk_at dksL_law_61 8 rfl rfl)
theorem dL_law_1598 : decode cL_law 1598 = .ok (.if_icmp .eq 526, 3) := dk_159 2 14 (dk_at dksL_law_61 11 rfl rfl)
theorem dL_law_1601 : decode cL_law 1601 = .ok (.iconst 0, 1) := dk_3 (dk_at dksL_law_61 14 rfl rfl)
theorem dL_law_1602 : decode cL_law 1602 = .ok (.ireturn, 1) := dk_172 (dk_at dksL_law_61 15 rfl rfl)
theorem dL_law_1603 : decode cL_law 1603 = .ok (.aload_n 1, 1) := dk_43 (dk_at dksL_law_61 16 rfl rfl)
theorem dL_law_1604 : decode cL_law 1604 = .ok (.aload_n 0, 1) := dk_42 (dk_at dksL_law_61 17 rfl rfl)
theorem dL_law_1605 : decode cL_law 1605 = .ok (.iload 4, 2) := dk_21 4 (dk_at dksL_law_61 18 rfl rfl)
theorem dL_law_1607 : decode cL_law 1607 = .ok (.iconst 1, 1) := dk_4 (dk_at dksL_law_61 20 rfl rfl)
theorem dL_law_1608 : decode cL_law 1608 = .ok (.iadd, 1) := dk_96 (dk_at dksL_law_61 21 rfl rfl)
theorem dL_law_1609 : decode cL_law 1609 = .ok (.iaload, 1) := dk_46 (dk_at dksL_law_61 22 rfl rfl)
theorem dL_law_1610 : decode cL_law 1610 = .ok (.aload_n 3, 1) := dk_45 (dk_at dksL_law_61 23 rfl rfl)
theorem dL_law_1611 : decode cL_law 1611 = .ok (.invokestatic 202, 3) := dk_184 0 202 (dk_at dksL_law_62 0 rfl rfl)
theorem dL_law_1614 : decode cL_law 1614 = .ok (.istore 5, 2) := dk_54 5 (dk_at dksL_law_62 3 rfl rfl)
theorem dL_law_1616 : decode cL_law 1616 = .ok (.aload_n 2, 1) := dk_44 (dk_at dksL_law_62 5 rfl rfl)
theorem dL_law_1617 : decode cL_law 1617 = .ok (.aload_n 0, 1) := dk_42 (dk_at dksL_law_62 6 rfl rfl)
theorem dL_law_1618 : decode cL_law 1618 = .ok (.iload 4, 2) := dk_21 4 (dk_at dksL_law_62 7 rfl rfl)
theorem dL_law_1620 : decode cL_law 1620 = .ok (.iconst 1, 1) := dk_4 (dk_at dksL_law_62 9 rfl rfl)
theorem dL_law_1621 : decode cL_law 1621 = .ok (.iadd, 1) := dk_96 (dk_at dksL_law_62 10 rfl rfl)
theorem dL_law_1622 : decode cL_law 1622 = .ok (.iaload, 1) := dk_46 (dk_at dksL_law_62 11 rfl rfl)
theorem dL_law_1623 : decode cL_law 1623 = .ok (.invokevirtual 204, 3) := dk_182 0 204 (dk_at dksL_law_62 12 rfl rfl)
theorem dL_law_1626 : decode cL_law 1626 = .ok (.istore 6, 2) := dk_54 6 (dk_at dksL_law_62 15 rfl rfl)
theorem dL_law_1628 : decode cL_law 1628 = .ok (.aload_n 2, 1) := dk_44 (dk_at dksL_law_62 17 rfl rfl)
theorem dL_law_1629 : decode cL_law 1629 = .ok (.invokevirtual 99, 3) := dk_182 0 99 (dk_at dksL_law_62 18 rfl rfl)
theorem dL_law_1632 : decode cL_law 1632 = .ok (.iload 5, 2) := dk_21 5 (dk_at dksL_law_62 21 rfl rfl)
theorem dL_law_1634 : decode cL_law 1634 = .ok (.if_icmp .eq 5, 3) := dk_159 0 5 (dk_at dksL_law_63 0 rfl rfl)
theorem dL_law_1637 : decode cL_law 1637 = .ok (.iconst 0, 1) := dk_3 (dk_at dksL_law_63 3 rfl rfl)
theorem dL_law_1638 : decode cL_law 1638 = .ok (.ireturn, 1) := dk_172 (dk_at dksL_law_63 4 rfl rfl)
theorem dL_law_1639 : decode cL_law 1639 = .ok (.iload 5, 2) := dk_21 5 (dk_at dksL_law_63 5 rfl rfl)
theorem dL_law_1641 : decode cL_law 1641 = .ok (.ifCond .ne 15, 3) := dk_154 0 15 (dk_at dksL_law_63 7 rfl rfl)
theorem dL_law_1644 : decode cL_law 1644 = .ok (.aload_n 3, 1) := dk_45 (dk_at dksL_law_63 10 rfl rfl)
theorem dL_law_1645 : decode cL_law 1645 = .ok (.iconst 0, 1) := dk_3 (dk_at dksL_law_63 11 rfl rfl)
theorem dL_law_1646 : decode cL_law 1646 = .ok (.laload, 1) := dk_47 (dk_at dksL_law_63 12 rfl rfl)
theorem dL_law_1647 : decode cL_law 1647 = .ok (.iload 6, 2) := dk_21 6 (dk_at dksL_law_63 13 rfl rfl)
theorem dL_law_1649 : decode cL_law 1649 = .ok (.i2l, 1) := dk_133 (dk_at dksL_law_63 15 rfl rfl)
theorem dL_law_1650 : decode cL_law 1650 = .ok (.lcmp, 1) := dk_148 (dk_at dksL_law_63 16 rfl rfl)
theorem dL_law_1651 : decode cL_law 1651 = .ok (.ifCond .eq 5, 3) := dk_153 0 5 (dk_at dksL_law_63 17 rfl rfl)
theorem dL_law_1654 : decode cL_law 1654 = .ok (.iconst 0, 1) := dk_3 (dk_at dksL_law_63 20 rfl rfl)
theorem dL_law_1655 : decode cL_law 1655 = .ok (.ireturn, 1) := dk_172 (dk_at dksL_law_63 21 rfl rfl)
theorem dL_law_1656 : decode cL_law 1656 = .ok (.goto 468, 3) := dk_167 1 212 (dk_at dksL_law_64 0 rfl rfl)
theorem dL_law_1659 : decode cL_law 1659 = .ok (.aload_n 1, 1) := dk_43 (dk_at dksL_law_64 3 rfl rfl)
theorem dL_law_1660 : decode cL_law 1660 = .ok (.aload_n 0, 1) := dk_42 (dk_at dksL_law_64 4 rfl rfl)
theorem dL_law_1661 : decode cL_law 1661 = .ok (.iload 4, 2) := dk_21 4 (dk_at dksL_law_64 5 rfl rfl)
theorem dL_law_1663 : decode cL_law 1663 = .ok (.iconst 1, 1) := dk_4 (dk_at dksL_law_64 7 rfl rfl)
theorem dL_law_1664 : decode cL_law 1664 = .ok (.iadd, 1) := dk_96 (dk_at dksL_law_64 8 rfl rfl)
theorem dL_law_1665 : decode cL_law 1665 = .ok (.iaload, 1) := dk_46 (dk_at dksL_law_64 9 rfl rfl)
theorem dL_law_1666 : decode cL_law 1666 = .ok (.aload_n 3, 1) := dk_45 (dk_at dksL_law_64 10 rfl rfl)
theorem dL_law_1667 : decode cL_law 1667 = .ok (.invokestatic 205, 3) := dk_184 0 205 (dk_at dksL_law_64 11 rfl rfl)
theorem dL_law_1670 : decode cL_law 1670 = .ok (.istore 5, 2) := dk_54 5 (dk_at dksL_law_64 14 rfl rfl)
theorem dL_law_1672 : decode cL_law 1672 = .ok (.aload_n 2, 1) := dk_44 (dk_at dksL_law_64 16 rfl rfl)
theorem dL_law_1673 : decode cL_law 1673 = .ok (.aload_n 0, 1) := dk_42 (dk_at dksL_law_64 17 rfl rfl)
theorem dL_law_1674 : decode cL_law 1674 = .ok (.iload 4, 2) := dk_21 4 (dk_at dksL_law_64 18 rfl rfl)
theorem dL_law_1676 : decode cL_law 1676 = .ok (.iconst 1, 1) := dk_4 (dk_at dksL_law_64 20 rfl rfl)
theorem dL_law_1677 : decode cL_law 1677 = .ok (.iadd, 1) := dk_96 (dk_at dksL_law_64 21 rfl rfl)
theorem dL_law_1678 : decode cL_law 1678 = .ok (.iaload, 1) := dk_46 (dk_at dksL_law_64 22 rfl rfl)
theorem dL_law_1679 : decode cL_law 1679 = .ok (.invokevirtual 207, 3) := dk_182 0 207 (dk_at dksL_law_65 0 rfl rfl)
theorem dL_law_1682 : decode cL_law 1682 = .ok (.istore 6, 2) := dk_54 6 (dk_at dksL_law_65 3 rfl rfl)
theorem dL_law_1684 : decode cL_law 1684 = .ok (.aload_n 2, 1) := dk_44 (dk_at dksL_law_65 5 rfl rfl)
theorem dL_law_1685 : decode cL_law 1685 = .ok (.invokevirtual 99, 3) := dk_182 0 99 (dk_at dksL_law_65 6 rfl rfl)
theorem dL_law_1688 : decode cL_law 1688 = .ok (.iload 5, 2) := dk_21 5 (dk_at dksL_law_65 9 rfl rfl)
theorem dL_law_1690 : decode cL_law 1690 = .ok (.if_icmp .eq 5, 3) := dk_159 0 5 (dk_at dksL_law_65 11 rfl rfl)
theorem dL_law_1693 : decode cL_law 1693 = .ok (.iconst 0, 1) := dk_3 (dk_at dksL_law_65 14 rfl rfl)
theorem dL_law_1694 : decode cL_law 1694 = .ok (.ireturn, 1) := dk_172 (dk_at dksL_law_65 15 rfl rfl)
theorem dL_law_1695 : decode cL_law 1695 = .ok (.iload 5, 2) := dk_21 5 (dk_at dksL_law_65 16 rfl rfl)
theorem dL_law_1697 : decode cL_law 1697 = .ok (.ifCond .ne 15, 3) := dk_154 0 15 (dk_at dksL_law_65 18 rfl rfl)
theorem dL_law_1700 : decode cL_law 1700 = .ok (.aload_n 3, 1) := dk_45 (dk_at dksL_law_65 21 rfl rfl)
theorem dL_law_1701 : decode cL_law 1701 = .ok (.iconst 0, 1) := dk_3 (dk_at dksL_law_65 22 rfl rfl)
theorem dL_law_1702 : decode cL_law 1702 = .ok (.laload, 1) := dk_47 (dk_at dksL_law_65 23 rfl rfl)
theorem dL_law_1703 : decode cL_law 1703 = .ok (.iload 6, 2) := dk_21 6 (dk_at dksL_law_66 0 rfl rfl)
theorem dL_law_1705 : decode cL_law 1705 = .ok (.i2l, 1) := dk_133 (dk_at dksL_law_66 2 rfl rfl)
theorem dL_law_1706 : decode cL_law 1706 = .ok (.lcmp, 1) := dk_148 (dk_at dksL_law_66 3 rfl rfl)
theorem dL_law_1707 : decode cL_law 1707 = .ok (.ifCond .eq 5, 3) := dk_153 0 5 (dk_at dksL_law_66 4 rfl rfl)
theorem dL_law_1710 : decode cL_law 1710 = .ok (.iconst 0, 1) := dk_3 (dk_at dksL_law_66 7 rfl rfl)
theorem dL_law_1711 : decode cL_law 1711 = .ok (.ireturn, 1) := dk_172 (dk_at dksL_law_66 8 rfl rfl)
theorem dL_law_1712 : decode cL_law 1712 = .ok (.goto 412, 3) := dk_167 1 156 (dk_at dksL_law_66 9 rfl rfl)
theorem dL_law_1715 : decode cL_law 1715 = .ok (.aload_n 1, 1) := dk_43 (dk_at dksL_law_66 12 rfl rfl)
theorem dL_law_1716 : decode cL_law 1716 = .ok (.aload_n 0, 1) := dk_42 (dk_at dksL_law_66 13 rfl rfl)
theorem dL_law_1717 : decode cL_law 1717 = .ok (.iload 4, 2) := dk_21 4 (dk_at dksL_law_66 14 rfl rfl)
theorem dL_law_1719 : decode cL_law 1719 = .ok (.iconst 1, 1) := dk_4 (dk_at dksL_law_66 16 rfl rfl)
theorem dL_law_1720 : decode cL_law 1720 = .ok (.iadd, 1) := dk_96 (dk_at dksL_law_66 17 rfl rfl)
theorem dL_law_1721 : decode cL_law 1721 = .ok (.iaload, 1) := dk_46 (dk_at dksL_law_66 18 rfl rfl)
theorem dL_law_1722 : decode cL_law 1722 = .ok (.ifCond .eq 7, 3) := dk_153 0 7 (dk_at dksL_law_66 19 rfl rfl)
theorem dL_law_1725 : decode cL_law 1725 = .ok (.iconst 1, 1) := dk_4 (dk_at dksL_law_66 22 rfl rfl)
theorem dL_law_1726 : decode cL_law 1726 = .ok (.goto 4, 3) := dk_167 0 4 (dk_at dksL_law_67 0 rfl rfl)
theorem dL_law_1729 : decode cL_law 1729 = .ok (.iconst 0, 1) := dk_3 (dk_at dksL_law_67 3 rfl rfl)
theorem dL_law_1730 : decode cL_law 1730 = .ok (.aload_n 0, 1) := dk_42 (dk_at dksL_law_67 4 rfl rfl)
theorem dL_law_1731 : decode cL_law 1731 = .ok (.iload 4, 2) := dk_21 4 (dk_at dksL_law_67 5 rfl rfl)
theorem dL_law_1733 : decode cL_law 1733 = .ok (.iconst 2, 1) := dk_5 (dk_at dksL_law_67 7 rfl rfl)
theorem dL_law_1734 : decode cL_law 1734 = .ok (.iadd, 1) := dk_96 (dk_at dksL_law_67 8 rfl rfl)
theorem dL_law_1735 : decode cL_law 1735 = .ok (.iaload, 1) := dk_46 (dk_at dksL_law_67 9 rfl rfl)
theorem dL_law_1736 : decode cL_law 1736 = .ok (.aload_n 3, 1) := dk_45 (dk_at dksL_law_67 10 rfl rfl)
theorem dL_law_1737 : decode cL_law 1737 = .ok (.invokestatic 208, 3) := dk_184 0 208 (dk_at dksL_law_67 11 rfl rfl)
theorem dL_law_1740 : decode cL_law 1740 = .ok (.istore 5, 2) := dk_54 5 (dk_at dksL_law_67 14 rfl rfl)
theorem dL_law_1742 : decode cL_law 1742 = .ok (.aload_n 2, 1) := dk_44 (dk_at dksL_law_67 16 rfl rfl)
theorem dL_law_1743 : decode cL_law 1743 = .ok (.aload_n 0, 1) := dk_42 (dk_at dksL_law_67 17 rfl rfl)
theorem dL_law_1744 : decode cL_law 1744 = .ok (.iload 4, 2) := dk_21 4 (dk_at dksL_law_67 18 rfl rfl)
theorem dL_law_1746 : decode cL_law 1746 = .ok (.iconst 1, 1) := dk_4 (dk_at dksL_law_67 20 rfl rfl)
theorem dL_law_1747 : decode cL_law 1747 = .ok (.iadd, 1) := dk_96 (dk_at dksL_law_67 21 rfl rfl)
theorem dL_law_1748 : decode cL_law 1748 = .ok (.iaload, 1) := dk_46 (dk_at dksL_law_67 22 rfl rfl)
theorem dL_law_1749 : decode cL_law 1749 = .ok (.ifCond .eq 7, 3) := dk_153 0 7 (dk_at dksL_law_68 0 rfl rfl)
theorem dL_law_1752 : decode cL_law 1752 = .ok (.iconst 1, 1) := dk_4 (dk_at dksL_law_68 3 rfl rfl)
theorem dL_law_1753 : decode cL_law 1753 = .ok (.goto 4, 3) := dk_167 0 4 (dk_at dksL_law_68 4 rfl rfl)
theorem dL_law_1756 : decode cL_law 1756 = .ok (.iconst 0, 1) := dk_3 (dk_at dksL_law_68 7 rfl rfl)
theorem dL_law_1757 : decode cL_law 1757 = .ok (.aload_n 0, 1) := dk_42 (dk_at dksL_law_68 8 rfl rfl)
theorem dL_law_1758 : decode cL_law 1758 = .ok (.iload 4, 2) := dk_21 4 (dk_at dksL_law_68 9 rfl rfl)
theorem dL_law_1760 : decode cL_law 1760 = .ok (.iconst 2, 1) := dk_5 (dk_at dksL_law_68 11 rfl rfl)
theorem dL_law_1761 : decode cL_law 1761 = .ok (.iadd, 1) := dk_96 (dk_at dksL_law_68 12 rfl rfl)
theorem dL_law_1762 : decode cL_law 1762 = .ok (.iaload, 1) := dk_46 (dk_at dksL_law_68 13 rfl rfl)
theorem dL_law_1763 : decode cL_law 1763 = .ok (.invokevirtual 210, 3) := dk_182 0 210 (dk_at dksL_law_68 14 rfl rfl)
theorem dL_law_1766 : decode cL_law 1766 = .ok (.istore 6, 2) := dk_54 6 (dk_at dksL_law_68 17 rfl rfl)
theorem dL_law_1768 : decode cL_law 1768 = .ok (.aload_n 2, 1) := dk_44 (dk_at dksL_law_68 19 rfl rfl)
theorem dL_law_1769 : decode cL_law 1769 = .ok (.invokevirtual 99, 3) := dk_182 0 99 (dk_at dksL_law_68 20 rfl rfl)
theorem dL_law_1772 : decode cL_law 1772 = .ok (.iload 5, 2) := dk_21 5 (dk_at dksL_law_69 0 rfl rfl)
theorem dL_law_1774 : decode cL_law 1774 = .ok (.if_icmp .eq 5, 3) := dk_159 0 5 (dk_at dksL_law_69 2 rfl rfl)
theorem dL_law_1777 : decode cL_law 1777 = .ok (.iconst 0, 1) := dk_3 (dk_at dksL_law_69 5 rfl rfl)
theorem dL_law_1778 : decode cL_law 1778 = .ok (.ireturn, 1) := dk_172 (dk_at dksL_law_69 6 rfl rfl)
theorem dL_law_1779 : decode cL_law 1779 = .ok (.iload 5, 2) := dk_21 5 (dk_at dksL_law_69 7 rfl rfl)
theorem dL_law_1781 : decode cL_law 1781 = .ok (.ifCond .ne 15, 3) := dk_154 0 15 (dk_at dksL_law_69 9 rfl rfl)
theorem dL_law_1784 : decode cL_law 1784 = .ok (.aload_n 3, 1) := dk_45 (dk_at dksL_law_69 12 rfl rfl)
theorem dL_law_1785 : decode cL_law 1785 = .ok (.iconst 0, 1) := dk_3 (dk_at dksL_law_69 13 rfl rfl)
theorem dL_law_1786 : decode cL_law 1786 = .ok (.laload, 1) := dk_47 (dk_at dksL_law_69 14 rfl rfl)
theorem dL_law_1787 : decode cL_law 1787 = .ok (.iload 6, 2) := dk_21 6 (dk_at dksL_law_69 15 rfl rfl)
theorem dL_law_1789 : decode cL_law 1789 = .ok (.i2l, 1) := dk_133 (dk_at dksL_law_69 17 rfl rfl)
theorem dL_law_1790 : decode cL_law 1790 = .ok (.lcmp, 1) := dk_148 (dk_at dksL_law_69 18 rfl rfl)
theorem dL_law_1791 : decode cL_law 1791 = .ok (.ifCond .eq 5, 3) := dk_153 0 5 (dk_at dksL_law_69 19 rfl rfl)
theorem dL_law_1794 : decode cL_law 1794 = .ok (.iconst 0, 1) := dk_3 (dk_at dksL_law_69 22 rfl rfl)
theorem dL_law_1795 : decode cL_law 1795 = .ok (.ireturn, 1) := dk_172 (dk_at dksL_law_69 23 rfl rfl)
theorem dL_law_1796 : decode cL_law 1796 = .ok (.goto 328, 3) := dk_167 1 72 (dk_at dksL_law_70 0 rfl rfl)
theorem dL_law_1799 : decode cL_law 1799 = .ok (.aload_n 1, 1) := dk_43 (dk_at dksL_law_70 3 rfl rfl)
theorem dL_law_1800 : decode cL_law 1800 = .ok (.aload_n 0, 1) := dk_42 (dk_at dksL_law_70 4 rfl rfl)
theorem dL_law_1801 : decode cL_law 1801 = .ok (.iload 4, 2) := dk_21 4 (dk_at dksL_law_70 5 rfl rfl)
theorem dL_law_1803 : decode cL_law 1803 = .ok (.iconst 1, 1) := dk_4 (dk_at dksL_law_70 7 rfl rfl)
theorem dL_law_1804 : decode cL_law 1804 = .ok (.iadd, 1) := dk_96 (dk_at dksL_law_70 8 rfl rfl)
theorem dL_law_1805 : decode cL_law 1805 = .ok (.iaload, 1) := dk_46 (dk_at dksL_law_70 9 rfl rfl)
theorem dL_law_1806 : decode cL_law 1806 = .ok (.aload_n 3, 1) := dk_45 (dk_at dksL_law_70 10 rfl rfl)
theorem dL_law_1807 : decode cL_law 1807 = .ok (.invokestatic 211, 3) := dk_184 0 211 (dk_at dksL_law_70 11 rfl rfl)
theorem dL_law_1810 : decode cL_law 1810 = .ok (.istore 5, 2) := dk_54 5 (dk_at dksL_law_70 14 rfl rfl)
theorem dL_law_1812 : decode cL_law 1812 = .ok (.aload_n 2, 1) := dk_44 (dk_at dksL_law_70 16 rfl rfl)
theorem dL_law_1813 : decode cL_law 1813 = .ok (.aload_n 0, 1) := dk_42 (dk_at dksL_law_70 17 rfl rfl)
theorem dL_law_1814 : decode cL_law 1814 = .ok (.iload 4, 2) := dk_21 4 (dk_at dksL_law_70 18 rfl rfl)
theorem dL_law_1816 : decode cL_law 1816 = .ok (.iconst 1, 1) := dk_4 (dk_at dksL_law_70 20 rfl rfl)
theorem dL_law_1817 : decode cL_law 1817 = .ok (.iadd, 1) := dk_96 (dk_at dksL_law_70 21 rfl rfl)
theorem dL_law_1818 : decode cL_law 1818 = .ok (.iaload, 1) := dk_46 (dk_at dksL_law_70 22 rfl rfl)
theorem dL_law_1819 : decode cL_law 1819 = .ok (.invokevirtual 213, 3) := dk_182 0 213 (dk_at dksL_law_71 0 rfl rfl)
theorem dL_law_1822 : decode cL_law 1822 = .ok (.istore 6, 2) := dk_54 6 (dk_at dksL_law_71 3 rfl rfl)
theorem dL_law_1824 : decode cL_law 1824 = .ok (.aload_n 2, 1) := dk_44 (dk_at dksL_law_71 5 rfl rfl)
theorem dL_law_1825 : decode cL_law 1825 = .ok (.invokevirtual 99, 3) := dk_182 0 99 (dk_at dksL_law_71 6 rfl rfl)
theorem dL_law_1828 : decode cL_law 1828 = .ok (.iload 5, 2) := dk_21 5 (dk_at dksL_law_71 9 rfl rfl)
theorem dL_law_1830 : decode cL_law 1830 = .ok (.if_icmp .eq 5, 3) := dk_159 0 5 (dk_at dksL_law_71 11 rfl rfl)
theorem dL_law_1833 : decode cL_law 1833 = .ok (.iconst 0, 1) := dk_3 (dk_at dksL_law_71 14 rfl rfl)
theorem dL_law_1834 : decode cL_law 1834 = .ok (.ireturn, 1) := dk_172 (dk_at dksL_law_71 15 rfl rfl)
theorem dL_law_1835 : decode cL_law 1835 = .ok (.iload 5, 2) := dk_21 5 (dk_at dksL_law_71 16 rfl rfl)
theorem dL_law_1837 : decode cL_law 1837 = .ok (.ifCond .ne 15, 3) := dk_154 0 15 (dk_at dksL_law_71 18 rfl rfl)
theorem dL_law_1840 : decode cL_law 1840 = .ok (.aload_n 3, 1) := dk_45 (dk_at dksL_law_71 21 rfl rfl)
theorem dL_law_1841 : decode cL_law 1841 = .ok (.iconst 0, 1) := dk_3 (dk_at dksL_law_71 22 rfl rfl)
theorem dL_law_1842 : decode cL_law 1842 = .ok (.laload, 1) := dk_47 (dk_at dksL_law_71 23 rfl rfl)
theorem dL_law_1843 : decode cL_law 1843 = .ok (.iload 6, 2) := dk_21 6 (dk_at dksL_law_72 0 rfl rfl)
theorem dL_law_1845 : decode cL_law 1845 = .ok (.i2l, 1) := dk_133 (dk_at dksL_law_72 2 rfl rfl)
theorem dL_law_1846 : decode cL_law 1846 = .ok (.lcmp, 1) := dk_148 (dk_at dksL_law_72 3 rfl rfl)
theorem dL_law_1847 : decode cL_law 1847 = .ok (.ifCond .eq 5, 3) := dk_153 0 5 (dk_at dksL_law_72 4 rfl rfl)
theorem dL_law_1850 : decode cL_law 1850 = .ok (.iconst 0, 1) := dk_3 (dk_at dksL_law_72 7 rfl rfl)
theorem dL_law_1851 : decode cL_law 1851 = .ok (.ireturn, 1) := dk_172 (dk_at dksL_law_72 8 rfl rfl)
theorem dL_law_1852 : decode cL_law 1852 = .ok (.goto 272, 3) := dk_167 1 16 (dk_at dksL_law_72 9 rfl rfl)
theorem dL_law_1855 : decode cL_law 1855 = .ok (.aload_n 1, 1) := dk_43 (dk_at dksL_law_72 12 rfl rfl)
theorem dL_law_1856 : decode cL_law 1856 = .ok (.invokevirtual 214, 3) := dk_182 0 214 (dk_at dksL_law_72 13 rfl rfl)
theorem dL_law_1859 : decode cL_law 1859 = .ok (.aload_n 2, 1) := dk_44 (dk_at dksL_law_72 16 rfl rfl)
theorem dL_law_1860 : decode cL_law 1860 = .ok (.invokevirtual 217, 3) := dk_182 0 217 (dk_at dksL_law_72 17 rfl rfl)
theorem dL_law_1863 : decode cL_law 1863 = .ok (.if_icmp .eq 261, 3) := dk_159 1 5 (dk_at dksL_law_72 20 rfl rfl)
theorem dL_law_1866 : decode cL_law 1866 = .ok (.iconst 0, 1) := dk_3 (dk_at dksL_law_72 23 rfl rfl)
theorem dL_law_1867 : decode cL_law 1867 = .ok (.ireturn, 1) := dk_172 (dk_at dksL_law_73 0 rfl rfl)
theorem dL_law_1868 : decode cL_law 1868 = .ok (.aload_n 1, 1) := dk_43 (dk_at dksL_law_73 1 rfl rfl)
theorem dL_law_1869 : decode cL_law 1869 = .ok (.aload_n 0, 1) := dk_42 (dk_at dksL_law_73 2 rfl rfl)
theorem dL_law_1870 : decode cL_law 1870 = .ok (.iload 4, 2) := dk_21 4 (dk_at dksL_law_73 3 rfl rfl)
theorem dL_law_1872 : decode cL_law 1872 = .ok (.iconst 1, 1) := dk_4 (dk_at dksL_law_73 5 rfl rfl)
theorem dL_law_1873 : decode cL_law 1873 = .ok (.iadd, 1) := dk_96 (dk_at dksL_law_73 6 rfl rfl)
theorem dL_law_1874 : decode cL_law 1874 = .ok (.iaload, 1) := dk_46 (dk_at dksL_law_73 7 rfl rfl)
theorem dL_law_1875 : decode cL_law 1875 = .ok (.aload_n 3, 1) := dk_45 (dk_at dksL_law_73 8 rfl rfl)
theorem dL_law_1876 : decode cL_law 1876 = .ok (.invokestatic 218, 3) := dk_184 0 218 (dk_at dksL_law_73 9 rfl rfl)
theorem dL_law_1879 : decode cL_law 1879 = .ok (.istore 5, 2) := dk_54 5 (dk_at dksL_law_73 12 rfl rfl)
theorem dL_law_1881 : decode cL_law 1881 = .ok (.aload_n 2, 1) := dk_44 (dk_at dksL_law_73 14 rfl rfl)
theorem dL_law_1882 : decode cL_law 1882 = .ok (.aload_n 0, 1) := dk_42 (dk_at dksL_law_73 15 rfl rfl)
theorem dL_law_1883 : decode cL_law 1883 = .ok (.iload 4, 2) := dk_21 4 (dk_at dksL_law_73 16 rfl rfl)
theorem dL_law_1885 : decode cL_law 1885 = .ok (.iconst 1, 1) := dk_4 (dk_at dksL_law_73 18 rfl rfl)
theorem dL_law_1886 : decode cL_law 1886 = .ok (.iadd, 1) := dk_96 (dk_at dksL_law_73 19 rfl rfl)
theorem dL_law_1887 : decode cL_law 1887 = .ok (.iaload, 1) := dk_46 (dk_at dksL_law_73 20 rfl rfl)
theorem dL_law_1888 : decode cL_law 1888 = .ok (.invokevirtual 220, 3) := dk_182 0 220 (dk_at dksL_law_73 21 rfl rfl)
theorem dL_law_1891 : decode cL_law 1891 = .ok (.istore 6, 2) := dk_54 6 (dk_at dksL_law_74 0 rfl rfl)
theorem dL_law_1893 : decode cL_law 1893 = .ok (.aload_n 2, 1) := dk_44 (dk_at dksL_law_74 2 rfl rfl)
theorem dL_law_1894 : decode cL_law 1894 = .ok (.invokevirtual 99, 3) := dk_182 0 99 (dk_at dksL_law_74 3 rfl rfl)
theorem dL_law_1897 : decode cL_law 1897 = .ok (.iload 5, 2) := dk_21 5 (dk_at dksL_law_74 6 rfl rfl)
theorem dL_law_1899 : decode cL_law 1899 = .ok (.if_icmp .eq 5, 3) := dk_159 0 5 (dk_at dksL_law_74 8 rfl rfl)
theorem dL_law_1902 : decode cL_law 1902 = .ok (.iconst 0, 1) := dk_3 (dk_at dksL_law_74 11 rfl rfl)
theorem dL_law_1903 : decode cL_law 1903 = .ok (.ireturn, 1) := dk_172 (dk_at dksL_law_74 12 rfl rfl)
theorem dL_law_1904 : decode cL_law 1904 = .ok (.iload 5, 2) := dk_21 5 (dk_at dksL_law_74 13 rfl rfl)
theorem dL_law_1906 : decode cL_law 1906 = .ok (.ifCond .ne 15, 3) := dk_154 0 15 (dk_at dksL_law_74 15 rfl rfl)
theorem dL_law_1909 : decode cL_law 1909 = .ok (.aload_n 3, 1) := dk_45 (dk_at dksL_law_74 18 rfl rfl)
theorem dL_law_1910 : decode cL_law 1910 = .ok (.iconst 0, 1) := dk_3 (dk_at dksL_law_74 19 rfl rfl)
theorem dL_law_1911 : decode cL_law 1911 = .ok (.laload, 1) := dk_47 (dk_at dksL_law_74 20 rfl rfl)
theorem dL_law_1912 : decode cL_law 1912 = .ok (.iload 6, 2) := dk_21 6 (dk_at dksL_law_74 21 rfl rfl)
theorem dL_law_1914 : decode cL_law 1914 = .ok (.i2l, 1) := dk_133 (dk_at dksL_law_74 23 rfl rfl)
theorem dL_law_1915 : decode cL_law 1915 = .ok (.lcmp, 1) := dk_148 (dk_at dksL_law_75 0 rfl rfl)
theorem dL_law_1916 : decode cL_law 1916 = .ok (.ifCond .eq 5, 3) := dk_153 0 5 (dk_at dksL_law_75 1 rfl rfl)
theorem dL_law_1919 : decode cL_law 1919 = .ok (.iconst 0, 1) := dk_3 (dk_at dksL_law_75 4 rfl rfl)
theorem dL_law_1920 : decode cL_law 1920 = .ok (.ireturn, 1) := dk_172 (dk_at dksL_law_75 5 rfl rfl)
theorem dL_law_1921 : decode cL_law 1921 = .ok (.goto 203, 3) := dk_167 0 203 (dk_at dksL_law_75 6 rfl rfl)
theorem dL_law_1924 : decode cL_law 1924 = .ok (.aload_n 1, 1) := dk_43 (dk_at dksL_law_75 9 rfl rfl)
theorem dL_law_1925 : decode cL_law 1925 = .ok (.invokevirtual 221, 3) := dk_182 0 221 (dk_at dksL_law_75 10 rfl rfl)
theorem dL_law_1928 : decode cL_law 1928 = .ok (.aload_n 2, 1) := dk_44 (dk_at dksL_law_75 13 rfl rfl)
theorem dL_law_1929 : decode cL_law 1929 = .ok (.invokevirtual 224, 3) := dk_182 0 224 (dk_at dksL_law_75 14 rfl rfl)
theorem dL_law_1932 : decode cL_law 1932 = .ok (.if_icmp .eq 192, 3) := dk_159 0 192 (dk_at dksL_law_75 17 rfl rfl)
theorem dL_law_1935 : decode cL_law 1935 = .ok (.iconst 0, 1) := dk_3 (dk_at dksL_law_75 20 rfl rfl)
theorem dL_law_1936 : decode cL_law 1936 = .ok (.ireturn, 1) := dk_172 (dk_at dksL_law_75 21 rfl rfl)
theorem dL_law_1937 : decode cL_law 1937 = .ok (.aload_n 1, 1) := dk_43 (dk_at dksL_law_75 22 rfl rfl)
theorem dL_law_1938 : decode cL_law 1938 = .ok (.aload_n 0, 1) := dk_42 (dk_at dksL_law_75 23 rfl rfl)
theorem dL_law_1939 : decode cL_law 1939 = .ok (.iload 4, 2) := dk_21 4 (dk_at dksL_law_76 0 rfl rfl)
theorem dL_law_1941 : decode cL_law 1941 = .ok (.iconst 1, 1) := dk_4 (dk_at dksL_law_76 2 rfl rfl)
theorem dL_law_1942 : decode cL_law 1942 = .ok (.iadd, 1) := dk_96 (dk_at dksL_law_76 3 rfl rfl)
theorem dL_law_1943 : decode cL_law 1943 = .ok (.iaload, 1) := dk_46 (dk_at dksL_law_76 4 rfl rfl)
theorem dL_law_1944 : decode cL_law 1944 = .ok (.aload_n 3, 1) := dk_45 (dk_at dksL_law_76 5 rfl rfl)
theorem dL_law_1945 : decode cL_law 1945 = .ok (.invokestatic 225, 3) := dk_184 0 225 (dk_at dksL_law_76 6 rfl rfl)
theorem dL_law_1948 : decode cL_law 1948 = .ok (.istore 5, 2) := dk_54 5 (dk_at dksL_law_76 9 rfl rfl)
theorem dL_law_1950 : decode cL_law 1950 = .ok (.aload_n 2, 1) := dk_44 (dk_at dksL_law_76 11 rfl rfl)
theorem dL_law_1951 : decode cL_law 1951 = .ok (.aload_n 0, 1) := dk_42 (dk_at dksL_law_76 12 rfl rfl)
theorem dL_law_1952 : decode cL_law 1952 = .ok (.iload 4, 2) := dk_21 4 (dk_at dksL_law_76 13 rfl rfl)
theorem dL_law_1954 : decode cL_law 1954 = .ok (.iconst 1, 1) := dk_4 (dk_at dksL_law_76 15 rfl rfl)
theorem dL_law_1955 : decode cL_law 1955 = .ok (.iadd, 1) := dk_96 (dk_at dksL_law_76 16 rfl rfl)
theorem dL_law_1956 : decode cL_law 1956 = .ok (.iaload, 1) := dk_46 (dk_at dksL_law_76 17 rfl rfl)
theorem dL_law_1957 : decode cL_law 1957 = .ok (.invokevirtual 227, 3) := dk_182 0 227 (dk_at dksL_law_76 18 rfl rfl)
theorem dL_law_1960 : decode cL_law 1960 = .ok (.istore 6, 2) := dk_54 6 (dk_at dksL_law_76 21 rfl rfl)
theorem dL_law_1962 : decode cL_law 1962 = .ok (.aload_n 2, 1) := dk_44 (dk_at dksL_law_76 23 rfl rfl)
theorem dL_law_1963 : decode cL_law 1963 = .ok (.invokevirtual 99, 3) := dk_182 0 99 (dk_at dksL_law_77 0 rfl rfl)
theorem dL_law_1966 : decode cL_law 1966 = .ok (.iload 5, 2) := dk_21 5 (dk_at dksL_law_77 3 rfl rfl)
theorem dL_law_1968 : decode cL_law 1968 = .ok (.if_icmp .eq 5, 3) := dk_159 0 5 (dk_at dksL_law_77 5 rfl rfl)
theorem dL_law_1971 : decode cL_law 1971 = .ok (.iconst 0, 1) := dk_3 (dk_at dksL_law_77 8 rfl rfl)
theorem dL_law_1972 : decode cL_law 1972 = .ok (.ireturn, 1) := dk_172 (dk_at dksL_law_77 9 rfl rfl)
theorem dL_law_1973 : decode cL_law 1973 = .ok (.iload 5, 2) := dk_21 5 (dk_at dksL_law_77 10 rfl rfl)
theorem dL_law_1975 : decode cL_law 1975 = .ok (.ifCond .ne 15, 3) := dk_154 0 15 (dk_at dksL_law_77 12 rfl rfl)
theorem dL_law_1978 : decode cL_law 1978 = .ok (.aload_n 3, 1) := dk_45 (dk_at dksL_law_77 15 rfl rfl)
theorem dL_law_1979 : decode cL_law 1979 = .ok (.iconst 0, 1) := dk_3 (dk_at dksL_law_77 16 rfl rfl)
theorem dL_law_1980 : decode cL_law 1980 = .ok (.laload, 1) := dk_47 (dk_at dksL_law_77 17 rfl rfl)
theorem dL_law_1981 : decode cL_law 1981 = .ok (.iload 6, 2) := dk_21 6 (dk_at dksL_law_77 18 rfl rfl)
theorem dL_law_1983 : decode cL_law 1983 = .ok (.i2l, 1) := dk_133 (dk_at dksL_law_77 20 rfl rfl)
theorem dL_law_1984 : decode cL_law 1984 = .ok (.lcmp, 1) := dk_148 (dk_at dksL_law_77 21 rfl rfl)
theorem dL_law_1985 : decode cL_law 1985 = .ok (.ifCond .eq 5, 3) := dk_153 0 5 (dk_at dksL_law_78 0 rfl rfl)
theorem dL_law_1988 : decode cL_law 1988 = .ok (.iconst 0, 1) := dk_3 (dk_at dksL_law_78 3 rfl rfl)
theorem dL_law_1989 : decode cL_law 1989 = .ok (.ireturn, 1) := dk_172 (dk_at dksL_law_78 4 rfl rfl)
theorem dL_law_1990 : decode cL_law 1990 = .ok (.goto 134, 3) := dk_167 0 134 (dk_at dksL_law_78 5 rfl rfl)
theorem dL_law_1993 : decode cL_law 1993 = .ok (.aload_n 1, 1) := dk_43 (dk_at dksL_law_78 8 rfl rfl)
theorem dL_law_1994 : decode cL_law 1994 = .ok (.aload_n 0, 1) := dk_42 (dk_at dksL_law_78 9 rfl rfl)
theorem dL_law_1995 : decode cL_law 1995 = .ok (.iload 4, 2) := dk_21 4 (dk_at dksL_law_78 10 rfl rfl)
theorem dL_law_1997 : decode cL_law 1997 = .ok (.iconst 1, 1) := dk_4 (dk_at dksL_law_78 12 rfl rfl)
theorem dL_law_1998 : decode cL_law 1998 = .ok (.iadd, 1) := dk_96 (dk_at dksL_law_78 13 rfl rfl)
theorem dL_law_1999 : decode cL_law 1999 = .ok (.iaload, 1) := dk_46 (dk_at dksL_law_78 14 rfl rfl)
theorem dL_law_2000 : decode cL_law 2000 = .ok (.invokevirtual 228, 3) := dk_182 0 228 (dk_at dksL_law_78 15 rfl rfl)
theorem dL_law_2003 : decode cL_law 2003 = .ok (.aload_n 2, 1) := dk_44 (dk_at dksL_law_78 18 rfl rfl)
theorem dL_law_2004 : decode cL_law 2004 = .ok (.aload_n 0, 1) := dk_42 (dk_at dksL_law_78 19 rfl rfl)
theorem dL_law_2005 : decode cL_law 2005 = .ok (.iload 4, 2) := dk_21 4 (dk_at dksL_law_78 20 rfl rfl)
theorem dL_law_2007 : decode cL_law 2007 = .ok (.iconst 1, 1) := dk_4 (dk_at dksL_law_78 22 rfl rfl)
theorem dL_law_2008 : decode cL_law 2008 = .ok (.iadd, 1) := dk_96 (dk_at dksL_law_78 23 rfl rfl)
theorem dL_law_2009 : decode cL_law 2009 = .ok (.iaload, 1) := dk_46 (dk_at dksL_law_79 0 rfl rfl)
theorem dL_law_2010 : decode cL_law 2010 = .ok (.invokevirtual 231, 3) := dk_182 0 231 (dk_at dksL_law_79 1 rfl rfl)
theorem dL_law_2013 : decode cL_law 2013 = .ok (.if_icmp .eq 111, 3) := dk_159 0 111 (dk_at dksL_law_79 4 rfl rfl)
theorem dL_law_2016 : decode cL_law 2016 = .ok (.iconst 0, 1) := dk_3 (dk_at dksL_law_79 7 rfl rfl)
theorem dL_law_2017 : decode cL_law 2017 = .ok (.ireturn, 1) := dk_172 (dk_at dksL_law_79 8 rfl rfl)
theorem dL_law_2018 : decode cL_law 2018 = .ok (.aload_n 1, 1) := dk_43 (dk_at dksL_law_79 9 rfl rfl)
theorem dL_law_2019 : decode cL_law 2019 = .ok (.invokevirtual 232, 3) := dk_182 0 232 (dk_at dksL_law_79 10 rfl rfl)
theorem dL_law_2022 : decode cL_law 2022 = .ok (.aload_n 2, 1) := dk_44 (dk_at dksL_law_79 13 rfl rfl)
theorem dL_law_2023 : decode cL_law 2023 = .ok (.invokevirtual 235, 3) := dk_182 0 235 (dk_at dksL_law_79 14 rfl rfl)
theorem dL_law_2026 : decode cL_law 2026 = .ok (.if_icmp .eq 98, 3) := dk_159 0 98 (dk_at dksL_law_79 17 rfl rfl)
theorem dL_law_2029 : decode cL_law 2029 = .ok (.iconst 0, 1) := dk_3 (dk_at dksL_law_79 20 rfl rfl)
theorem dL_law_2030 : decode cL_law 2030 = .ok (.ireturn, 1) := dk_172 (dk_at dksL_law_79 21 rfl rfl)
theorem dL_law_2031 : decode cL_law 2031 = .ok (.aload_n 1, 1) := dk_43 (dk_at dksL_law_79 22 rfl rfl)
theorem dL_law_2032 : decode cL_law 2032 = .ok (.invokevirtual 236, 3) := dk_182 0 236 (dk_at dksL_law_80 0 rfl rfl)
theorem dL_law_2035 : decode cL_law 2035 = .ok (.aload_n 2, 1) := dk_44 (dk_at dksL_law_80 3 rfl rfl)
theorem dL_law_2036 : decode cL_law 2036 = .ok (.invokevirtual 239, 3) := dk_182 0 239 (dk_at dksL_law_80 4 rfl rfl)
theorem dL_law_2039 : decode cL_law 2039 = .ok (.if_icmp .eq 85, 3) := dk_159 0 85 (dk_at dksL_law_80 7 rfl rfl)
theorem dL_law_2042 : decode cL_law 2042 = .ok (.iconst 0, 1) := dk_3 (dk_at dksL_law_80 10 rfl rfl)
theorem dL_law_2043 : decode cL_law 2043 = .ok (.ireturn, 1) := dk_172 (dk_at dksL_law_80 11 rfl rfl)
theorem dL_law_2044 : decode cL_law 2044 = .ok (.aload_n 1, 1) := dk_43 (dk_at dksL_law_80 12 rfl rfl)
theorem dL_law_2045 : decode cL_law 2045 = .ok (.invokevirtual 240, 3) := dk_182 0 240 (dk_at dksL_law_80 13 rfl rfl)
theorem dL_law_2048 : decode cL_law 2048 = .ok (.aload_n 2, 1) := dk_44 (dk_at dksL_law_80 16 rfl rfl)
theorem dL_law_2049 : decode cL_law 2049 = .ok (.invokevirtual 243, 3) := dk_182 0 243 (dk_at dksL_law_80 17 rfl rfl)
theorem dL_law_2052 : decode cL_law 2052 = .ok (.goto 72, 3) := dk_167 0 72 (dk_at dksL_law_80 20 rfl rfl)
theorem dL_law_2055 : decode cL_law 2055 = .ok (.aload_n 1, 1) := dk_43 (dk_at dksL_law_80 23 rfl rfl)
theorem dL_law_2056 : decode cL_law 2056 = .ok (.invokevirtual 244, 3) := dk_182 0 244 (dk_at dksL_law_81 0 rfl rfl)
theorem dL_law_2059 : decode cL_law 2059 = .ok (.aload_n 2, 1) := dk_44 (dk_at dksL_law_81 3 rfl rfl)
theorem dL_law_2060 : decode cL_law 2060 = .ok (.invokevirtual 248, 3) := dk_182 0 248 (dk_at dksL_law_81 4 rfl rfl)
theorem dL_law_2063 : decode cL_law 2063 = .ok (.if_icmp .eq 61, 3) := dk_159 0 61 (dk_at dksL_law_81 7 rfl rfl)
theorem dL_law_2066 : decode cL_law 2066 = .ok (.iconst 0, 1) := dk_3 (dk_at dksL_law_81 10 rfl rfl)
theorem dL_law_2067 : decode cL_law 2067 = .ok (.ireturn, 1) := dk_172 (dk_at dksL_law_81 11 rfl rfl)
theorem dL_law_2068 : decode cL_law 2068 = .ok (.aload_n 1, 1) := dk_43 (dk_at dksL_law_81 12 rfl rfl)
theorem dL_law_2069 : decode cL_law 2069 = .ok (.aload_n 0, 1) := dk_42 (dk_at dksL_law_81 13 rfl rfl)
theorem dL_law_2070 : decode cL_law 2070 = .ok (.iload 4, 2) := dk_21 4 (dk_at dksL_law_81 14 rfl rfl)
theorem dL_law_2072 : decode cL_law 2072 = .ok (.iconst 1, 1) := dk_4 (dk_at dksL_law_81 16 rfl rfl)
theorem dL_law_2073 : decode cL_law 2073 = .ok (.iadd, 1) := dk_96 (dk_at dksL_law_81 17 rfl rfl)
theorem dL_law_2074 : decode cL_law 2074 = .ok (.iaload, 1) := dk_46 (dk_at dksL_law_81 18 rfl rfl)
theorem dL_law_2075 : decode cL_law 2075 = .ok (.aload_n 3, 1) := dk_45 (dk_at dksL_law_81 19 rfl rfl)
theorem dL_law_2076 : decode cL_law 2076 = .ok (.invokestatic 249, 3) := dk_184 0 249 (dk_at dksL_law_81 20 rfl rfl)
theorem dL_law_2079 : decode cL_law 2079 = .ok (.istore 5, 2) := dk_54 5 (dk_at dksL_law_82 0 rfl rfl)
theorem dL_law_2081 : decode cL_law 2081 = .ok (.aload_n 2, 1) := dk_44 (dk_at dksL_law_82 2 rfl rfl)
theorem dL_law_2082 : decode cL_law 2082 = .ok (.aload_n 0, 1) := dk_42 (dk_at dksL_law_82 3 rfl rfl)
theorem dL_law_2083 : decode cL_law 2083 = .ok (.iload 4, 2) := dk_21 4 (dk_at dksL_law_82 4 rfl rfl)
theorem dL_law_2085 : decode cL_law 2085 = .ok (.iconst 1, 1) := dk_4 (dk_at dksL_law_82 6 rfl rfl)
theorem dL_law_2086 : decode cL_law 2086 = .ok (.iadd, 1) := dk_96 (dk_at dksL_law_82 7 rfl rfl)
theorem dL_law_2087 : decode cL_law 2087 = .ok (.iaload, 1) := dk_46 (dk_at dksL_law_82 8 rfl rfl)
theorem dL_law_2088 : decode cL_law 2088 = .ok (.invokevirtual 251, 3) := dk_182 0 251 (dk_at dksL_law_82 9 rfl rfl)
theorem dL_law_2091 : decode cL_law 2091 = .ok (.istore 6, 2) := dk_54 6 (dk_at dksL_law_82 12 rfl rfl)
theorem dL_law_2093 : decode cL_law 2093 = .ok (.aload_n 2, 1) := dk_44 (dk_at dksL_law_82 14 rfl rfl)
theorem dL_law_2094 : decode cL_law 2094 = .ok (.invokevirtual 99, 3) := dk_182 0 99 (dk_at dksL_law_82 15 rfl rfl)
theorem dL_law_2097 : decode cL_law 2097 = .ok (.iload 5, 2) := dk_21 5 (dk_at dksL_law_82 18 rfl rfl)
theorem dL_law_2099 : decode cL_law 2099 = .ok (.if_icmp .eq 5, 3) := dk_159 0 5 (dk_at dksL_law_82 20 rfl rfl)
theorem dL_law_2102 : decode cL_law 2102 = .ok (.iconst 0, 1) := dk_3 (dk_at dksL_law_82 23 rfl rfl)
theorem dL_law_2103 : decode cL_law 2103 = .ok (.ireturn, 1) := dk_172 (dk_at dksL_law_83 0 rfl rfl)
theorem dL_law_2104 : decode cL_law 2104 = .ok (.iload 5, 2) := dk_21 5 (dk_at dksL_law_83 1 rfl rfl)
theorem dL_law_2106 : decode cL_law 2106 = .ok (.ifCond .ne 15, 3) := dk_154 0 15 (dk_at dksL_law_83 3 rfl rfl)
theorem dL_law_2109 : decode cL_law 2109 = .ok (.aload_n 3, 1) := dk_45 (dk_at dksL_law_83 6 rfl rfl)
theorem dL_law_2110 : decode cL_law 2110 = .ok (.iconst 0, 1) := dk_3 (dk_at dksL_law_83 7 rfl rfl)
theorem dL_law_2111 : decode cL_law 2111 = .ok (.laload, 1) := dk_47 (dk_at dksL_law_83 8 rfl rfl)
theorem dL_law_2112 : decode cL_law 2112 = .ok (.iload 6, 2) := dk_21 6 (dk_at dksL_law_83 9 rfl rfl)
theorem dL_law_2114 : decode cL_law 2114 = .ok (.i2l, 1) := dk_133 (dk_at dksL_law_83 11 rfl rfl)
theorem dL_law_2115 : decode cL_law 2115 = .ok (.lcmp, 1) := dk_148 (dk_at dksL_law_83 12 rfl rfl)
theorem dL_law_2116 : decode cL_law 2116 = .ok (.ifCond .eq 5, 3) := dk_153 0 5 (dk_at dksL_law_83 13 rfl rfl)
theorem dL_law_2119 : decode cL_law 2119 = .ok (.iconst 0, 1) := dk_3 (dk_at dksL_law_83 16 rfl rfl)
theorem dL_law_2120 : decode cL_law 2120 = .ok (.ireturn, 1) := dk_172 (dk_at dksL_law_83 17 rfl rfl)
theorem dL_law_2121 : decode cL_law 2121 = .ok (.goto 3, 3) := dk_167 0 3 (dk_at dksL_law_83 18 rfl rfl)
theorem dL_law_2124 : decode cL_law 2124 = .ok (.iinc 4 6, 3) := dk_132 4 6 (dk_at dksL_law_83 21 rfl rfl)
theorem dL_law_2127 : decode cL_law 2127 = .ok (.goto (-2104), 3) := dk_167 247 200 (dk_at dksL_law_84 0 rfl rfl)
theorem dL_law_2130 : decode cL_law 2130 = .ok (.iconst 1, 1) := dk_4 (dk_at dksL_law_84 3 rfl rfl)
theorem dL_law_2131 : decode cL_law 2131 = .ok (.ireturn, 1) := dk_172 (dk_at dksL_law_84 4 rfl rfl)
/-- the law's own body -/
def zbLaw (G : zPg) (C : zO) (b : Nat) (Q : zQ) (Y : zY) (σ : zS) : Prop := znew σ 0 [va_rf none, va_rf none, va_rf none, va_rf none, .int 0, .int 0, va_rf none] 7 (fun s1 => (∃ a7, (some σ.2.1) = some a7 ∧ zcl C 22 [.ref a7] Y s1 (zqV (fun s5 => znew s5 4 [va_rf none, va_rf none, va_rf none, va_rf none, .int 0, .int 0, .int 0, va_rf none, va_rf none, va_rf none, va_rf none, va_rf none, va_rf none, va_rf none, va_rf none, .int 0, va_rf none, va_rf none, va_rf none, .long 0, .long 0, .int 0, .int 0, .int 0, va_rf none, va_rf none, .int 0, va_rf none, .int 0, .int 0, .int 0, .int 0, .int 0, .int 0, .int 0, .int 0, .int 0, va_rf none, va_rf none, va_rf none, .int 0] 41 (fun s9 => (∃ a15, (some s5.2.1) = some a15 ∧ zcl C 154 [.ref a15] Y s9 (zqV (fun s13 => znewA s13 1 (1 : Int32) (.inr (.inl (fun _ => 0))) (fun s17 => ∃ n, zIt (fun _ _ => False) (fun rec22 (p20 : Int32) (s21 : zS) => zln s21 0 (some b) (fun v27 => (((v27 - (6 : Int32)) < p20) → zbool (1 : Int32) ∧ Q (some (.int (1 : Int32))) s21) ∧ ((¬ (v27 - (6 : Int32)) < p20) → zaI s21 0 (some b) p20 (fun v36 => zJ (fun  (s38 : zS) => (∀ v40 : Int32, v40 = p20 + (6 : Int32) → rec22 v40 s38)) (fun (j39 : zS → Prop) => ((v36 &&& (63 : Int32)).toInt < (0) ∨ (41) < (v36 &&& (63 : Int32)).toInt → j39 s21) ∧ ((v36 &&& (63 : Int32)) = (0) → zaI s21 0 (some b) (p20 + (1 : Int32)) (fun v50 => zaI s21 0 (some b) (p20 + (2 : Int32)) (fun v58 => zaI s21 0 (some b) (p20 + (3 : Int32)) (fun v66 => zaI s21 0 (some b) (p20 + (4 : Int32)) (fun v74 => zaI s21 0 (some b) (p20 + (5 : Int32)) (fun v82 => zrc s21 (some σ.2.1) 0 (fun a87 => zcl C 23 [.ref a87, .int v50, .int v58, .int v66, .int v74, .int v82] Y s21 (zqI (fun v84 s85 => zaI s85 0 (some b) (p20 + (1 : Int32)) (fun v97 => zaI s85 0 (some b) (p20 + (2 : Int32)) (fun v105 => zaI s85 0 (some b) (p20 + (3 : Int32)) (fun v113 => zaI s85 0 (some b) (p20 + (4 : Int32)) (fun v121 => zaI s85 0 (some b) (p20 + (5 : Int32)) (fun v129 => zrc s85 (some s5.2.1) 4 (fun a134 => zcl C 262 [.ref a134, .int v97, .int v105, .int v113, .int v121, .int v129] Y s85 (zqI (fun v131 s132 => ((v84 = v131) → j39 s132) ∧ ((¬ v84 = v131) → zbool (0 : Int32) ∧ Q (some (.int (0 : Int32))) s132)))))))))))))))))) ∧ ((v36 &&& (63 : Int32)) = (1) → zaI s21 0 (some b) (p20 + (1 : Int32)) (fun v145 => zcl C 0 [va_rf (some σ.2.1), .int v145, va_rf (some s13.2.1)] Y s21 (zqI (fun v147 s148 => zaI s148 0 (some b) (p20 + (1 : Int32)) (fun v156 => zrc s148 (some s5.2.1) 4 (fun a161 => zcl C 264 [.ref a161, .int v156] Y s148 (zqI (fun v158 s159 => zrc s159 (some s5.2.1) 4 (fun a168 => zcl C 156 [.ref a168] Y s159 (zqI (fun v165 s166 => ((v165 = v147) → zJ (fun  (s173 : zS) => j39 s173) (fun (j174 : zS → Prop) => ((¬ v147 = 0) → j174 s166) ∧ ((v147 = 0) → zaL s166 (some s13.2.1) (0 : Int32) (fun v182 => (((lg_cmp v182 v158.toInt64) = 0) → j174 s166) ∧ ((¬ (lg_cmp v182 v158.toInt64) = 0) → zbool (0 : Int32) ∧ Q (some (.int (0 : Int32))) s166))))) ∧ ((¬ v165 = v147) → zbool (0 : Int32) ∧ Q (some (.int (0 : Int32))) s166)))))))))))) ∧ ((v36 &&& (63 : Int32)) = (2) → zrc s21 (some σ.2.1) 0 (fun a188 => zcl C 25 [.ref a188] Y s21 (zqI (fun v185 s186 => zrc s186 (some s5.2.1) 4 (fun a195 => zcl C 263 [.ref a195] Y s186 (zqI (fun v192 s193 => ((v185 = v192) → j39 s193) ∧ ((¬ v185 = v192) → zbool (0 : Int32) ∧ Q (some (.int (0 : Int32))) s193)))))))) ∧ ((v36 &&& (63 : Int32)) = (3) → zaI s21 0 (some b) (p20 + (1 : Int32)) (fun v206 => zcl C 1 [va_rf (some σ.2.1), .int v206, va_rf (some s13.2.1)] Y s21 (zqI (fun v208 s209 => zaI s209 0 (some b) (p20 + (1 : Int32)) (fun v217 => zrc s209 (some s5.2.1) 4 (fun a222 => zcl C 157 [.ref a222, .int v217] Y s209 (zqI (fun v219 s220 => zrc s220 (some s5.2.1) 4 (fun a229 => zcl C 156 [.ref a229] Y s220 (zqI (fun v226 s227 => ((v226 = v208) → zJ (fun  (s234 : zS) => j39 s234) (fun (j235 : zS → Prop) => ((¬ v208 = 0) → j235 s227) ∧ ((v208 = 0) → zaL s227 (some s13.2.1) (0 : Int32) (fun v243 => (((lg_cmp v243 v219.toInt64) = 0) → j235 s227) ∧ ((¬ (lg_cmp v243 v219.toInt64) = 0) → zbool (0 : Int32) ∧ Q (some (.int (0 : Int32))) s227))))) ∧ ((¬ v226 = v208) → zbool (0 : Int32) ∧ Q (some (.int (0 : Int32))) s227)))))))))))) ∧ ((v36 &&& (63 : Int32)) = (4) → zaI s21 0 (some b) (p20 + (1 : Int32)) (fun v252 => zaI s21 0 (some b) (p20 + (2 : Int32)) (fun v260 => zcl C 2 [va_rf (some σ.2.1), .int v252, .int v260, va_rf (some s13.2.1)] Y s21 (zqI (fun v262 s263 => zaI s263 0 (some b) (p20 + (1 : Int32)) (fun v271 => zaI s263 0 (some b) (p20 + (2 : Int32)) (fun v279 => zrc s263 (some s5.2.1) 4 (fun a284 => zcl C 164 [.ref a284, .int v271, .int v279] Y s263 (zqI (fun v281 s282 => zrc s282 (some s5.2.1) 4 (fun a291 => zcl C 156 [.ref a291] Y s282 (zqI (fun v288 s289 => ((v288 = v262) → zJ (fun  (s296 : zS) => j39 s296) (fun (j297 : zS → Prop) => ((¬ v262 = 0) → j297 s289) ∧ ((v262 = 0) → zaL s289 (some s13.2.1) (0 : Int32) (fun v305 => (((lg_cmp v305 v281.toInt64) = 0) → j297 s289) ∧ ((¬ (lg_cmp v305 v281.toInt64) = 0) → zbool (0 : Int32) ∧ Q (some (.int (0 : Int32))) s289))))) ∧ ((¬ v288 = v262) → zbool (0 : Int32) ∧ Q (some (.int (0 : Int32))) s289)))))))))))))) ∧ ((v36 &&& (63 : Int32)) = (5) → zaI s21 0 (some b) (p20 + (1 : Int32)) (fun v314 => zaI s21 0 (some b) (p20 + (2 : Int32)) (fun v322 => zcl C 3 [va_rf (some σ.2.1), .int v314, .int v322, va_rf (some s13.2.1)] Y s21 (zqI (fun v324 s325 => zaI s325 0 (some b) (p20 + (1 : Int32)) (fun v333 => zaI s325 0 (some b) (p20 + (2 : Int32)) (fun v341 => zrc s325 (some s5.2.1) 4 (fun a346 => zcl C 168 [.ref a346, .int v333, .int v341] Y s325 (zqI (fun v343 s344 => zrc s344 (some s5.2.1) 4 (fun a353 => zcl C 156 [.ref a353] Y s344 (zqI (fun v350 s351 => ((v350 = v324) → zJ (fun  (s358 : zS) => j39 s358) (fun (j359 : zS → Prop) => ((¬ v324 = 0) → j359 s351) ∧ ((v324 = 0) → zaL s351 (some s13.2.1) (0 : Int32) (fun v367 => (((lg_cmp v367 v343.toInt64) = 0) → j359 s351) ∧ ((¬ (lg_cmp v367 v343.toInt64) = 0) → zbool (0 : Int32) ∧ Q (some (.int (0 : Int32))) s351))))) ∧ ((¬ v350 = v324) → zbool (0 : Int32) ∧ Q (some (.int (0 : Int32))) s351)))))))))))))) ∧ ((v36 &&& (63 : Int32)) = (6) → zaI s21 0 (some b) (p20 + (1 : Int32)) (fun v376 => zcl C 4 [va_rf (some σ.2.1), .int v376, va_rf (some s13.2.1)] Y s21 (zqI (fun v378 s379 => zaI s379 0 (some b) (p20 + (1 : Int32)) (fun v387 => zrc s379 (some s5.2.1) 4 (fun a392 => zcl C 170 [.ref a392, .int v387] Y s379 (zqI (fun v389 s390 => zrc s390 (some s5.2.1) 4 (fun a399 => zcl C 156 [.ref a399] Y s390 (zqI (fun v396 s397 => ((v396 = v378) → zJ (fun  (s404 : zS) => j39 s404) (fun (j405 : zS → Prop) => ((¬ v378 = 0) → j405 s397) ∧ ((v378 = 0) → zaL s397 (some s13.2.1) (0 : Int32) (fun v413 => (((lg_cmp v413 v389.toInt64) = 0) → j405 s397) ∧ ((¬ (lg_cmp v413 v389.toInt64) = 0) → zbool (0 : Int32) ∧ Q (some (.int (0 : Int32))) s397))))) ∧ ((¬ v396 = v378) → zbool (0 : Int32) ∧ Q (some (.int (0 : Int32))) s397)))))))))))) ∧ ((v36 &&& (63 : Int32)) = (7) → zaI s21 0 (some b) (p20 + (1 : Int32)) (fun v422 => zcl C 5 [va_rf (some σ.2.1), .int v422, va_rf (some s13.2.1)] Y s21 (zqI (fun v424 s425 => zaI s425 0 (some b) (p20 + (1 : Int32)) (fun v433 => zrc s425 (some s5.2.1) 4 (fun a438 => zcl C 175 [.ref a438, .int v433] Y s425 (zqI (fun v435 s436 => zrc s436 (some s5.2.1) 4 (fun a445 => zcl C 156 [.ref a445] Y s436 (zqI (fun v442 s443 => ((v442 = v424) → zJ (fun  (s450 : zS) => j39 s450) (fun (j451 : zS → Prop) => ((¬ v424 = 0) → j451 s443) ∧ ((v424 = 0) → zaL s443 (some s13.2.1) (0 : Int32) (fun v459 => (((lg_cmp v459 v435.toInt64) = 0) → j451 s443) ∧ ((¬ (lg_cmp v459 v435.toInt64) = 0) → zbool (0 : Int32) ∧ Q (some (.int (0 : Int32))) s443))))) ∧ ((¬ v442 = v424) → zbool (0 : Int32) ∧ Q (some (.int (0 : Int32))) s443)))))))))))) ∧ ((v36 &&& (63 : Int32)) = (8) → zaI s21 0 (some b) (p20 + (1 : Int32)) (fun v468 => zcl C 6 [va_rf (some σ.2.1), .int v468, va_rf (some s13.2.1)] Y s21 (zqI (fun v470 s471 => zaI s471 0 (some b) (p20 + (1 : Int32)) (fun v479 => zrc s471 (some s5.2.1) 4 (fun a484 => zcl C 176 [.ref a484, .int v479] Y s471 (zqI (fun v481 s482 => zrc s482 (some s5.2.1) 4 (fun a491 => zcl C 156 [.ref a491] Y s482 (zqI (fun v488 s489 => ((v488 = v470) → zJ (fun  (s496 : zS) => j39 s496) (fun (j497 : zS → Prop) => ((¬ v470 = 0) → j497 s489) ∧ ((v470 = 0) → zaL s489 (some s13.2.1) (0 : Int32) (fun v505 => (((lg_cmp v505 v481.toInt64) = 0) → j497 s489) ∧ ((¬ (lg_cmp v505 v481.toInt64) = 0) → zbool (0 : Int32) ∧ Q (some (.int (0 : Int32))) s489))))) ∧ ((¬ v488 = v470) → zbool (0 : Int32) ∧ Q (some (.int (0 : Int32))) s489)))))))))))) ∧ ((v36 &&& (63 : Int32)) = (9) → zaI s21 0 (some b) (p20 + (1 : Int32)) (fun v514 => zrc s21 (some σ.2.1) 0 (fun a519 => zcl C 26 [.ref a519, .int v514] Y s21 (zqI (fun v516 s517 => zaI s517 0 (some b) (p20 + (1 : Int32)) (fun v529 => zrc s517 (some s5.2.1) 4 (fun a534 => zcl C 182 [.ref a534, .int v529] Y s517 (zqI (fun v531 s532 => ((v516 = v531) → j39 s532) ∧ ((¬ v516 = v531) → zbool (0 : Int32) ∧ Q (some (.int (0 : Int32))) s532)))))))))) ∧ ((v36 &&& (63 : Int32)) = (10) → zaI s21 0 (some b) (p20 + (1 : Int32)) (fun v545 => zrc s21 (some σ.2.1) 0 (fun a550 => zcl C 28 [.ref a550, .int v545] Y s21 (zqI (fun v547 s548 => zaI s548 0 (some b) (p20 + (1 : Int32)) (fun v560 => zrc s548 (some s5.2.1) 4 (fun a565 => zcl C 183 [.ref a565, .int v560] Y s548 (zqI (fun v562 s563 => ((v547 = v562) → j39 s563) ∧ ((¬ v547 = v562) → zbool (0 : Int32) ∧ Q (some (.int (0 : Int32))) s563)))))))))) ∧ ((v36 &&& (63 : Int32)) = (11) → zrc s21 (some σ.2.1) 0 (fun a573 => zcl C 29 [.ref a573] Y s21 (zqI (fun v570 s571 => zrc s571 (some s5.2.1) 4 (fun a580 => zcl C 185 [.ref a580] Y s571 (zqI (fun v577 s578 => ((v570 = v577) → j39 s578) ∧ ((¬ v570 = v577) → zbool (0 : Int32) ∧ Q (some (.int (0 : Int32))) s578)))))))) ∧ ((v36 &&& (63 : Int32)) = (12) → zaI s21 0 (some b) (p20 + (1 : Int32)) (fun v591 => zJ (fun (p593 : Int32) (s594 : zS) => zaI s594 0 (some b) (p20 + (2 : Int32)) (fun v602 => zcl C 7 [va_rf (some σ.2.1), .int p593, .int v602, va_rf (some s13.2.1)] Y s594 (zqI (fun v604 s605 => zaI s605 0 (some b) (p20 + (1 : Int32)) (fun v613 => zJ (fun (p615 : Int32) (s616 : zS) => zaI s616 0 (some b) (p20 + (2 : Int32)) (fun v624 => zrc s616 (some s5.2.1) 4 (fun a629 => zcl C 187 [.ref a629, .int p615, .int v624] Y s616 (zqI (fun v626 s627 => zrc s627 (some s5.2.1) 4 (fun a636 => zcl C 156 [.ref a636] Y s627 (zqI (fun v633 s634 => ((v633 = v604) → zJ (fun  (s641 : zS) => j39 s641) (fun (j642 : zS → Prop) => ((¬ v604 = 0) → j642 s634) ∧ ((v604 = 0) → zaL s634 (some s13.2.1) (0 : Int32) (fun v650 => (((lg_cmp v650 v626.toInt64) = 0) → j642 s634) ∧ ((¬ (lg_cmp v650 v626.toInt64) = 0) → zbool (0 : Int32) ∧ Q (some (.int (0 : Int32))) s634))))) ∧ ((¬ v633 = v604) → zbool (0 : Int32) ∧ Q (some (.int (0 : Int32))) s634))))))))) (fun (j617 : Int32 → zS → Prop) => ((v613 = 0) → j617 (0 : Int32) s605) ∧ ((¬ v613 = 0) → j617 (1 : Int32) s605))))))) (fun (j595 : Int32 → zS → Prop) => ((v591 = 0) → j595 (0 : Int32) s21) ∧ ((¬ v591 = 0) → j595 (1 : Int32) s21)))) ∧ ((v36 &&& (63 : Int32)) = (13) → zaI s21 0 (some b) (p20 + (1 : Int32)) (fun v661 => zaI s21 0 (some b) (p20 + (2 : Int32)) (fun v669 => zcl C 8 [va_rf (some σ.2.1), .int v661, .int v669, va_rf (some s13.2.1)] Y s21 (zqI (fun v671 s672 => zaI s672 0 (some b) (p20 + (1 : Int32)) (fun v680 => zaI s672 0 (some b) (p20 + (2 : Int32)) (fun v688 => zrc s672 (some s5.2.1) 4 (fun a693 => zcl C 193 [.ref a693, .int v680, .int v688] Y s672 (zqI (fun v690 s691 => zrc s691 (some s5.2.1) 4 (fun a700 => zcl C 156 [.ref a700] Y s691 (zqI (fun v697 s698 => ((v697 = v671) → zJ (fun  (s705 : zS) => j39 s705) (fun (j706 : zS → Prop) => ((¬ v671 = 0) → j706 s698) ∧ ((v671 = 0) → zaL s698 (some s13.2.1) (0 : Int32) (fun v714 => (((lg_cmp v714 v690.toInt64) = 0) → j706 s698) ∧ ((¬ (lg_cmp v714 v690.toInt64) = 0) → zbool (0 : Int32) ∧ Q (some (.int (0 : Int32))) s698))))) ∧ ((¬ v697 = v671) → zbool (0 : Int32) ∧ Q (some (.int (0 : Int32))) s698)))))))))))))) ∧ ((v36 &&& (63 : Int32)) = (14) → zaI s21 0 (some b) (p20 + (1 : Int32)) (fun v723 => zJ (fun (p725 : Int32) (s726 : zS) => zrc s726 (some σ.2.1) 0 (fun a731 => zcl C 30 [.ref a731, .int p725] Y s726 (zqL (fun v728 s729 => zaI s729 0 (some b) (p20 + (1 : Int32)) (fun v741 => zJ (fun (p743 : Int32) (s744 : zS) => zrc s744 (some s5.2.1) 4 (fun a749 => zcl C 195 [.ref a749, .int p743] Y s744 (zqL (fun v746 s747 => (((lg_cmp v728 v746) = 0) → j39 s747) ∧ ((¬ (lg_cmp v728 v746) = 0) → zbool (0 : Int32) ∧ Q (some (.int (0 : Int32))) s747))))) (fun (j745 : Int32 → zS → Prop) => ((v741 = 0) → j745 (0 : Int32) s729) ∧ ((¬ v741 = 0) → j745 (1 : Int32) s729))))))) (fun (j727 : Int32 → zS → Prop) => ((v723 = 0) → j727 (0 : Int32) s21) ∧ ((¬ v723 = 0) → j727 (1 : Int32) s21)))) ∧ ((v36 &&& (63 : Int32)) = (15) → zaI s21 0 (some b) (p20 + (1 : Int32)) (fun v762 => zJ (fun (p764 : Int32) (s765 : zS) => zrc s765 (some σ.2.1) 0 (fun a770 => zcl C 33 [.ref a770, .int p764] Y s765 (zqI (fun v767 s768 => zaI s768 0 (some b) (p20 + (1 : Int32)) (fun v780 => zJ (fun (p782 : Int32) (s783 : zS) => zrc s783 (some s5.2.1) 4 (fun a788 => zcl C 212 [.ref a788, .int p782] Y s783 (zqI (fun v785 s786 => ((v767 = v785) → j39 s786) ∧ ((¬ v767 = v785) → zbool (0 : Int32) ∧ Q (some (.int (0 : Int32))) s786))))) (fun (j784 : Int32 → zS → Prop) => ((v780 = 0) → j784 (0 : Int32) s768) ∧ ((¬ v780 = 0) → j784 (1 : Int32) s768))))))) (fun (j766 : Int32 → zS → Prop) => ((v762 = 0) → j766 (0 : Int32) s21) ∧ ((¬ v762 = 0) → j766 (1 : Int32) s21)))) ∧ ((v36 &&& (63 : Int32)) = (16) → zaI s21 0 (some b) (p20 + (1 : Int32)) (fun v801 => zJ (fun (p803 : Int32) (s804 : zS) => zaI s804 0 (some b) (p20 + (2 : Int32)) (fun v812 => zaI s804 0 (some b) (p20 + (3 : Int32)) (fun v820 => zJ (fun (p822 : Int32) (s823 : zS) => zcl C 9 [va_rf (some σ.2.1), .int p803, .int v812, .int p822, va_rf (some s13.2.1)] Y s823 (zqI (fun v825 s826 => zaI s826 0 (some b) (p20 + (1 : Int32)) (fun v834 => zJ (fun (p836 : Int32) (s837 : zS) => zaI s837 0 (some b) (p20 + (2 : Int32)) (fun v845 => zaI s837 0 (some b) (p20 + (3 : Int32)) (fun v853 => zJ (fun (p855 : Int32) (s856 : zS) => zrc s856 (some s5.2.1) 4 (fun a861 => zcl C 213 [.ref a861, .int p836, .int v845, .int p855] Y s856 (zqL (fun v858 s859 => zrc s859 (some s5.2.1) 4 (fun a868 => zcl C 156 [.ref a868] Y s859 (zqI (fun v865 s866 => ((v865 = v825) → zJ (fun  (s873 : zS) => j39 s873) (fun (j874 : zS → Prop) => ((¬ v825 = 0) → j874 s866) ∧ ((v825 = 0) → zaL s866 (some s13.2.1) (0 : Int32) (fun v882 => (((lg_cmp v882 v858) = 0) → j874 s866) ∧ ((¬ (lg_cmp v882 v858) = 0) → zbool (0 : Int32) ∧ Q (some (.int (0 : Int32))) s866))))) ∧ ((¬ v865 = v825) → zbool (0 : Int32) ∧ Q (some (.int (0 : Int32))) s866)))))))) (fun (j857 : Int32 → zS → Prop) => ((v853 = 0) → j857 (0 : Int32) s837) ∧ ((¬ v853 = 0) → j857 (1 : Int32) s837))))) (fun (j838 : Int32 → zS → Prop) => ((v834 = 0) → j838 (0 : Int32) s826) ∧ ((¬ v834 = 0) → j838 (1 : Int32) s826)))))) (fun (j824 : Int32 → zS → Prop) => ((v820 = 0) → j824 (0 : Int32) s804) ∧ ((¬ v820 = 0) → j824 (1 : Int32) s804))))) (fun (j805 : Int32 → zS → Prop) => ((v801 = 0) → j805 (0 : Int32) s21) ∧ ((¬ v801 = 0) → j805 (1 : Int32) s21)))) ∧ ((v36 &&& (63 : Int32)) = (17) → zrc s21 (some σ.2.1) 0 (fun a892 => zcl C 34 [.ref a892] Y s21 (zqI (fun v889 s890 => zrc s890 (some s5.2.1) 4 (fun a899 => zcl C 214 [.ref a899] Y s890 (zqI (fun v896 s897 => ((v889 = v896) → j39 s897) ∧ ((¬ v889 = v896) → zbool (0 : Int32) ∧ Q (some (.int (0 : Int32))) s897)))))))) ∧ ((v36 &&& (63 : Int32)) = (18) → zaI s21 0 (some b) (p20 + (1 : Int32)) (fun v910 => zcl C 10 [va_rf (some σ.2.1), .int v910, va_rf (some s13.2.1)] Y s21 (zqI (fun v912 s913 => zaI s913 0 (some b) (p20 + (1 : Int32)) (fun v921 => zrc s913 (some s5.2.1) 4 (fun a926 => zcl C 215 [.ref a926, .int v921] Y s913 (zqI (fun v923 s924 => zrc s924 (some s5.2.1) 4 (fun a933 => zcl C 156 [.ref a933] Y s924 (zqI (fun v930 s931 => ((v930 = v912) → zJ (fun  (s938 : zS) => j39 s938) (fun (j939 : zS → Prop) => ((¬ v912 = 0) → j939 s931) ∧ ((v912 = 0) → zaL s931 (some s13.2.1) (0 : Int32) (fun v947 => (((lg_cmp v947 v923.toInt64) = 0) → j939 s931) ∧ ((¬ (lg_cmp v947 v923.toInt64) = 0) → zbool (0 : Int32) ∧ Q (some (.int (0 : Int32))) s931))))) ∧ ((¬ v930 = v912) → zbool (0 : Int32) ∧ Q (some (.int (0 : Int32))) s931)))))))))))) ∧ ((v36 &&& (63 : Int32)) = (19) → zaI s21 0 (some b) (p20 + (1 : Int32)) (fun v956 => zcl C 11 [va_rf (some σ.2.1), .int v956, va_rf (some s13.2.1)] Y s21 (zqI (fun v958 s959 => zaI s959 0 (some b) (p20 + (1 : Int32)) (fun v967 => zrc s959 (some s5.2.1) 4 (fun a972 => zcl C 221 [.ref a972, .int v967] Y s959 (zqI (fun v969 s970 => zrc s970 (some s5.2.1) 4 (fun a979 => zcl C 156 [.ref a979] Y s970 (zqI (fun v976 s977 => ((v976 = v958) → zJ (fun  (s984 : zS) => j39 s984) (fun (j985 : zS → Prop) => ((¬ v958 = 0) → j985 s977) ∧ ((v958 = 0) → zaL s977 (some s13.2.1) (0 : Int32) (fun v993 => (((lg_cmp v993 v969.toInt64) = 0) → j985 s977) ∧ ((¬ (lg_cmp v993 v969.toInt64) = 0) → zbool (0 : Int32) ∧ Q (some (.int (0 : Int32))) s977))))) ∧ ((¬ v976 = v958) → zbool (0 : Int32) ∧ Q (some (.int (0 : Int32))) s977)))))))))))) ∧ ((v36 &&& (63 : Int32)) = (20) → zrc s21 (some σ.2.1) 0 (fun a999 => zcl C 35 [.ref a999] Y s21 (zqI (fun v996 s997 => zrc s997 (some s5.2.1) 4 (fun a1006 => zcl C 224 [.ref a1006] Y s997 (zqI (fun v1003 s1004 => ((v996 = v1003) → j39 s1004) ∧ ((¬ v996 = v1003) → zbool (0 : Int32) ∧ Q (some (.int (0 : Int32))) s1004)))))))) ∧ ((v36 &&& (63 : Int32)) = (21) → zrc s21 (some σ.2.1) 0 (fun a1014 => zcl C 36 [.ref a1014] Y s21 (zqI (fun v1011 s1012 => zrc s1012 (some s5.2.1) 4 (fun a1021 => zcl C 230 [.ref a1021] Y s1012 (zqI (fun v1018 s1019 => ((v1011 = v1018) → j39 s1019) ∧ ((¬ v1011 = v1018) → zbool (0 : Int32) ∧ Q (some (.int (0 : Int32))) s1019)))))))) ∧ ((v36 &&& (63 : Int32)) = (22) → zrc s21 (some σ.2.1) 0 (fun a1029 => zcl C 37 [.ref a1029] Y s21 (zqD (fun v1026 s1027 => zrc s1027 (some s5.2.1) 4 (fun a1036 => zcl C 232 [.ref a1036] Y s1027 (zqD (fun v1033 s1034 => zJ (fun  (s1040 : zS) => j39 s1040) (fun (j1041 : zS → Prop) => (((Op.cmpValue (FP.dcmp v1026 v1033) .l) = 0) → j1041 s1034) ∧ ((¬ (Op.cmpValue (FP.dcmp v1026 v1033) .l) = 0) → zJ (fun  (s1043 : zS) => zbool (0 : Int32) ∧ Q (some (.int (0 : Int32))) s1043) (fun (j1044 : zS → Prop) => (((Op.cmpValue (FP.dcmp v1026 v1026) .l) = 0) → j1044 s1034) ∧ ((¬ (Op.cmpValue (FP.dcmp v1026 v1026) .l) = 0) → ((¬ (Op.cmpValue (FP.dcmp v1033 v1033) .l) = 0) → j1041 s1034) ∧ (((Op.cmpValue (FP.dcmp v1033 v1033) .l) = 0) → j1044 s1034)))))))))))) ∧ ((v36 &&& (63 : Int32)) = (23) → zrc s21 (some σ.2.1) 0 (fun a1050 => zcl C 38 [.ref a1050] Y s21 (zqF (fun v1047 s1048 => (vf_n64 (FP.f2d v1047) ∧ zrc s1048 (some s5.2.1) 4 (fun a1057 => zcl C 233 [.ref a1057] Y s1048 (zqF (fun v1054 s1055 => (vf_n64 (FP.f2d v1054) ∧ zJ (fun  (s1061 : zS) => j39 s1061) (fun (j1062 : zS → Prop) => (((Op.cmpValue (FP.dcmp (FP.f2d v1047) (FP.f2d v1054)) .l) = 0) → j1062 s1055) ∧ ((¬ (Op.cmpValue (FP.dcmp (FP.f2d v1047) (FP.f2d v1054)) .l) = 0) → zJ (fun  (s1064 : zS) => zbool (0 : Int32) ∧ Q (some (.int (0 : Int32))) s1064) (fun (j1065 : zS → Prop) => (((Op.cmpValue (FP.dcmp (FP.f2d v1047) (FP.f2d v1047)) .l) = 0) → j1065 s1055) ∧ ((¬ (Op.cmpValue (FP.dcmp (FP.f2d v1047) (FP.f2d v1047)) .l) = 0) → ((¬ (Op.cmpValue (FP.dcmp (FP.f2d v1054) (FP.f2d v1054)) .l) = 0) → j1062 s1055) ∧ (((Op.cmpValue (FP.dcmp (FP.f2d v1054) (FP.f2d v1054)) .l) = 0) → j1065 s1055)))))))))))))) ∧ ((v36 &&& (63 : Int32)) = (24) → zaI s21 0 (some b) (p20 + (1 : Int32)) (fun v1074 => zaI s21 0 (some b) (p20 + (2 : Int32)) (fun v1082 => zaI s21 0 (some b) (p20 + (3 : Int32)) (fun v1090 => zcl C 12 [va_rf (some σ.2.1), .int v1074, .int v1082, .int v1090, va_rf (some s13.2.1)] Y s21 (zqI (fun v1092 s1093 => zaI s1093 0 (some b) (p20 + (1 : Int32)) (fun v1101 => zaI s1093 0 (some b) (p20 + (2 : Int32)) (fun v1109 => zaI s1093 0 (some b) (p20 + (3 : Int32)) (fun v1117 => zrc s1093 (some s5.2.1) 4 (fun a1122 => zcl C 234 [.ref a1122, .int v1101, .int v1109, .int v1117] Y s1093 (zqI (fun v1119 s1120 => zrc s1120 (some s5.2.1) 4 (fun a1129 => zcl C 156 [.ref a1129] Y s1120 (zqI (fun v1126 s1127 => ((v1126 = v1092) → zJ (fun  (s1134 : zS) => j39 s1134) (fun (j1135 : zS → Prop) => ((¬ v1092 = 0) → j1135 s1127) ∧ ((v1092 = 0) → zaL s1127 (some s13.2.1) (0 : Int32) (fun v1143 => (((lg_cmp v1143 v1119.toInt64) = 0) → j1135 s1127) ∧ ((¬ (lg_cmp v1143 v1119.toInt64) = 0) → zbool (0 : Int32) ∧ Q (some (.int (0 : Int32))) s1127))))) ∧ ((¬ v1126 = v1092) → zbool (0 : Int32) ∧ Q (some (.int (0 : Int32))) s1127)))))))))))))))) ∧ ((v36 &&& (63 : Int32)) = (25) → zaI s21 0 (some b) (p20 + (1 : Int32)) (fun v1152 => zcl C 13 [va_rf (some σ.2.1), .int v1152, va_rf (some s13.2.1)] Y s21 (zqI (fun v1154 s1155 => zaI s1155 0 (some b) (p20 + (1 : Int32)) (fun v1163 => zrc s1155 (some s5.2.1) 4 (fun a1168 => zcl C 242 [.ref a1168, .int v1163] Y s1155 (zqI (fun v1165 s1166 => zrc s1166 (some s5.2.1) 4 (fun a1175 => zcl C 156 [.ref a1175] Y s1166 (zqI (fun v1172 s1173 => ((v1172 = v1154) → zJ (fun  (s1180 : zS) => j39 s1180) (fun (j1181 : zS → Prop) => ((¬ v1154 = 0) → j1181 s1173) ∧ ((v1154 = 0) → zaL s1173 (some s13.2.1) (0 : Int32) (fun v1189 => (((lg_cmp v1189 v1165.toInt64) = 0) → j1181 s1173) ∧ ((¬ (lg_cmp v1189 v1165.toInt64) = 0) → zbool (0 : Int32) ∧ Q (some (.int (0 : Int32))) s1173))))) ∧ ((¬ v1172 = v1154) → zbool (0 : Int32) ∧ Q (some (.int (0 : Int32))) s1173)))))))))))) ∧ ((v36 &&& (63 : Int32)) = (26) → zaI s21 0 (some b) (p20 + (1 : Int32)) (fun v1198 => zcl C 14 [va_rf (some σ.2.1), .int v1198, va_rf (some s13.2.1)] Y s21 (zqI (fun v1200 s1201 => zaI s1201 0 (some b) (p20 + (1 : Int32)) (fun v1209 => zrc s1201 (some s5.2.1) 4 (fun a1214 => zcl C 243 [.ref a1214, .int v1209] Y s1201 (zqI (fun v1211 s1212 => zrc s1212 (some s5.2.1) 4 (fun a1221 => zcl C 156 [.ref a1221] Y s1212 (zqI (fun v1218 s1219 => ((v1218 = v1200) → zJ (fun  (s1226 : zS) => j39 s1226) (fun (j1227 : zS → Prop) => ((¬ v1200 = 0) → j1227 s1219) ∧ ((v1200 = 0) → zaL s1219 (some s13.2.1) (0 : Int32) (fun v1235 => (((lg_cmp v1235 v1211.toInt64) = 0) → j1227 s1219) ∧ ((¬ (lg_cmp v1235 v1211.toInt64) = 0) → zbool (0 : Int32) ∧ Q (some (.int (0 : Int32))) s1219))))) ∧ ((¬ v1218 = v1200) → zbool (0 : Int32) ∧ Q (some (.int (0 : Int32))) s1219)))))))))))) ∧ ((v36 &&& (63 : Int32)) = (27) → zaI s21 0 (some b) (p20 + (1 : Int32)) (fun v1244 => zJ (fun (p1246 : Int32) (s1247 : zS) => zrc s1247 (some σ.2.1) 0 (fun a1252 => zcl C 39 [.ref a1252, .int p1246] Y s1247 (zqI (fun v1249 s1250 => zaI s1250 0 (some b) (p20 + (1 : Int32)) (fun v1262 => zJ (fun (p1264 : Int32) (s1265 : zS) => zrc s1265 (some s5.2.1) 4 (fun a1270 => zcl C 244 [.ref a1270, .int p1264] Y s1265 (zqI (fun v1267 s1268 => ((v1249 = v1267) → j39 s1268) ∧ ((¬ v1249 = v1267) → zbool (0 : Int32) ∧ Q (some (.int (0 : Int32))) s1268))))) (fun (j1266 : Int32 → zS → Prop) => ((v1262 = 0) → j1266 (0 : Int32) s1250) ∧ ((¬ v1262 = 0) → j1266 (1 : Int32) s1250))))))) (fun (j1248 : Int32 → zS → Prop) => ((v1244 = 0) → j1248 (0 : Int32) s21) ∧ ((¬ v1244 = 0) → j1248 (1 : Int32) s21)))) ∧ ((v36 &&& (63 : Int32)) = (28) → zaI s21 0 (some b) (p20 + (1 : Int32)) (fun v1283 => zcl C 15 [va_rf (some σ.2.1), .int v1283, va_rf (some s13.2.1)] Y s21 (zqI (fun v1285 s1286 => zaI s1286 0 (some b) (p20 + (1 : Int32)) (fun v1294 => zrc s1286 (some s5.2.1) 4 (fun a1299 => zcl C 245 [.ref a1299, .int v1294] Y s1286 (zqI (fun v1296 s1297 => zrc s1297 (some s5.2.1) 4 (fun a1306 => zcl C 156 [.ref a1306] Y s1297 (zqI (fun v1303 s1304 => ((v1303 = v1285) → zJ (fun  (s1311 : zS) => j39 s1311) (fun (j1312 : zS → Prop) => ((¬ v1285 = 0) → j1312 s1304) ∧ ((v1285 = 0) → zaL s1304 (some s13.2.1) (0 : Int32) (fun v1320 => (((lg_cmp v1320 v1296.toInt64) = 0) → j1312 s1304) ∧ ((¬ (lg_cmp v1320 v1296.toInt64) = 0) → zbool (0 : Int32) ∧ Q (some (.int (0 : Int32))) s1304))))) ∧ ((¬ v1303 = v1285) → zbool (0 : Int32) ∧ Q (some (.int (0 : Int32))) s1304)))))))))))) ∧ ((v36 &&& (63 : Int32)) = (29) → zaI s21 0 (some b) (p20 + (1 : Int32)) (fun v1329 => zcl C 16 [va_rf (some σ.2.1), .int v1329, va_rf (some s13.2.1)] Y s21 (zqI (fun v1331 s1332 => zaI s1332 0 (some b) (p20 + (1 : Int32)) (fun v1340 => zrc s1332 (some s5.2.1) 4 (fun a1345 => zcl C 247 [.ref a1345, .int v1340] Y s1332 (zqI (fun v1342 s1343 => zrc s1343 (some s5.2.1) 4 (fun a1352 => zcl C 156 [.ref a1352] Y s1343 (zqI (fun v1349 s1350 => ((v1349 = v1331) → zJ (fun  (s1357 : zS) => j39 s1357) (fun (j1358 : zS → Prop) => ((¬ v1331 = 0) → j1358 s1350) ∧ ((v1331 = 0) → zaL s1350 (some s13.2.1) (0 : Int32) (fun v1366 => (((lg_cmp v1366 v1342.toInt64) = 0) → j1358 s1350) ∧ ((¬ (lg_cmp v1366 v1342.toInt64) = 0) → zbool (0 : Int32) ∧ Q (some (.int (0 : Int32))) s1350))))) ∧ ((¬ v1349 = v1331) → zbool (0 : Int32) ∧ Q (some (.int (0 : Int32))) s1350)))))))))))) ∧ ((v36 &&& (63 : Int32)) = (30) → zaI s21 0 (some b) (p20 + (1 : Int32)) (fun v1375 => zJ (fun (p1377 : Int32) (s1378 : zS) => zaI s1378 0 (some b) (p20 + (2 : Int32)) (fun v1386 => zcl C 17 [va_rf (some σ.2.1), .int p1377, .int v1386, va_rf (some s13.2.1)] Y s1378 (zqI (fun v1388 s1389 => zaI s1389 0 (some b) (p20 + (1 : Int32)) (fun v1397 => zJ (fun (p1399 : Int32) (s1400 : zS) => zaI s1400 0 (some b) (p20 + (2 : Int32)) (fun v1408 => zrc s1400 (some s5.2.1) 4 (fun a1413 => zcl C 248 [.ref a1413, .int p1399, .int v1408] Y s1400 (zqI (fun v1410 s1411 => zrc s1411 (some s5.2.1) 4 (fun a1420 => zcl C 156 [.ref a1420] Y s1411 (zqI (fun v1417 s1418 => ((v1417 = v1388) → zJ (fun  (s1425 : zS) => j39 s1425) (fun (j1426 : zS → Prop) => ((¬ v1388 = 0) → j1426 s1418) ∧ ((v1388 = 0) → zaL s1418 (some s13.2.1) (0 : Int32) (fun v1434 => (((lg_cmp v1434 v1410.toInt64) = 0) → j1426 s1418) ∧ ((¬ (lg_cmp v1434 v1410.toInt64) = 0) → zbool (0 : Int32) ∧ Q (some (.int (0 : Int32))) s1418))))) ∧ ((¬ v1417 = v1388) → zbool (0 : Int32) ∧ Q (some (.int (0 : Int32))) s1418))))))))) (fun (j1401 : Int32 → zS → Prop) => ((v1397 = 0) → j1401 (0 : Int32) s1389) ∧ ((¬ v1397 = 0) → j1401 (1 : Int32) s1389))))))) (fun (j1379 : Int32 → zS → Prop) => ((v1375 = 0) → j1379 (0 : Int32) s21) ∧ ((¬ v1375 = 0) → j1379 (1 : Int32) s21)))) ∧ ((v36 &&& (63 : Int32)) = (31) → zaI s21 0 (some b) (p20 + (1 : Int32)) (fun v1445 => zcl C 18 [va_rf (some σ.2.1), .int v1445, va_rf (some s13.2.1)] Y s21 (zqI (fun v1447 s1448 => zaI s1448 0 (some b) (p20 + (1 : Int32)) (fun v1456 => zrc s1448 (some s5.2.1) 4 (fun a1461 => zcl C 249 [.ref a1461, .int v1456] Y s1448 (zqI (fun v1458 s1459 => zrc s1459 (some s5.2.1) 4 (fun a1468 => zcl C 156 [.ref a1468] Y s1459 (zqI (fun v1465 s1466 => ((v1465 = v1447) → zJ (fun  (s1473 : zS) => j39 s1473) (fun (j1474 : zS → Prop) => ((¬ v1447 = 0) → j1474 s1466) ∧ ((v1447 = 0) → zaL s1466 (some s13.2.1) (0 : Int32) (fun v1482 => (((lg_cmp v1482 v1458.toInt64) = 0) → j1474 s1466) ∧ ((¬ (lg_cmp v1482 v1458.toInt64) = 0) → zbool (0 : Int32) ∧ Q (some (.int (0 : Int32))) s1466))))) ∧ ((¬ v1465 = v1447) → zbool (0 : Int32) ∧ Q (some (.int (0 : Int32))) s1466)))))))))))) ∧ ((v36 &&& (63 : Int32)) = (32) → zrc s21 (some σ.2.1) 0 (fun a1488 => zcl C 41 [.ref a1488] Y s21 (zqI (fun v1485 s1486 => zrc s1486 (some s5.2.1) 4 (fun a1495 => zcl C 251 [.ref a1495] Y s1486 (zqI (fun v1492 s1493 => ((v1485 = v1492) → j39 s1493) ∧ ((¬ v1485 = v1492) → zbool (0 : Int32) ∧ Q (some (.int (0 : Int32))) s1493)))))))) ∧ ((v36 &&& (63 : Int32)) = (33) → zaI s21 0 (some b) (p20 + (1 : Int32)) (fun v1506 => zcl C 19 [va_rf (some σ.2.1), .int v1506, va_rf (some s13.2.1)] Y s21 (zqI (fun v1508 s1509 => zaI s1509 0 (some b) (p20 + (1 : Int32)) (fun v1517 => zrc s1509 (some s5.2.1) 4 (fun a1522 => zcl C 252 [.ref a1522, .int v1517] Y s1509 (zqI (fun v1519 s1520 => zrc s1520 (some s5.2.1) 4 (fun a1529 => zcl C 156 [.ref a1529] Y s1520 (zqI (fun v1526 s1527 => ((v1526 = v1508) → zJ (fun  (s1534 : zS) => j39 s1534) (fun (j1535 : zS → Prop) => ((¬ v1508 = 0) → j1535 s1527) ∧ ((v1508 = 0) → zaL s1527 (some s13.2.1) (0 : Int32) (fun v1543 => (((lg_cmp v1543 v1519.toInt64) = 0) → j1535 s1527) ∧ ((¬ (lg_cmp v1543 v1519.toInt64) = 0) → zbool (0 : Int32) ∧ Q (some (.int (0 : Int32))) s1527))))) ∧ ((¬ v1526 = v1508) → zbool (0 : Int32) ∧ Q (some (.int (0 : Int32))) s1527)))))))))))) ∧ ((v36 &&& (63 : Int32)) = (34) → zrc s21 (some σ.2.1) 0 (fun a1549 => zcl C 42 [.ref a1549] Y s21 (zqI (fun v1546 s1547 => zrc s1547 (some s5.2.1) 4 (fun a1556 => zcl C 253 [.ref a1556] Y s1547 (zqI (fun v1553 s1554 => ((v1546 = v1553) → j39 s1554) ∧ ((¬ v1546 = v1553) → zbool (0 : Int32) ∧ Q (some (.int (0 : Int32))) s1554)))))))) ∧ ((v36 &&& (63 : Int32)) = (35) → zaI s21 0 (some b) (p20 + (1 : Int32)) (fun v1567 => zcl C 20 [va_rf (some σ.2.1), .int v1567, va_rf (some s13.2.1)] Y s21 (zqI (fun v1569 s1570 => zaI s1570 0 (some b) (p20 + (1 : Int32)) (fun v1578 => zrc s1570 (some s5.2.1) 4 (fun a1583 => zcl C 254 [.ref a1583, .int v1578] Y s1570 (zqI (fun v1580 s1581 => zrc s1581 (some s5.2.1) 4 (fun a1590 => zcl C 156 [.ref a1590] Y s1581 (zqI (fun v1587 s1588 => ((v1587 = v1569) → zJ (fun  (s1595 : zS) => j39 s1595) (fun (j1596 : zS → Prop) => ((¬ v1569 = 0) → j1596 s1588) ∧ ((v1569 = 0) → zaL s1588 (some s13.2.1) (0 : Int32) (fun v1604 => (((lg_cmp v1604 v1580.toInt64) = 0) → j1596 s1588) ∧ ((¬ (lg_cmp v1604 v1580.toInt64) = 0) → zbool (0 : Int32) ∧ Q (some (.int (0 : Int32))) s1588))))) ∧ ((¬ v1587 = v1569) → zbool (0 : Int32) ∧ Q (some (.int (0 : Int32))) s1588)))))))))))) ∧ ((v36 &&& (63 : Int32)) = (36) → zaI s21 0 (some b) (p20 + (1 : Int32)) (fun v1613 => zrc s21 (some σ.2.1) 0 (fun a1618 => zcl C 47 [.ref a1618, .int v1613] Y s21 (zqI (fun v1615 s1616 => zaI s1616 0 (some b) (p20 + (1 : Int32)) (fun v1628 => zrc s1616 (some s5.2.1) 4 (fun a1633 => zcl C 257 [.ref a1633, .int v1628] Y s1616 (zqI (fun v1630 s1631 => ((v1615 = v1630) → j39 s1631) ∧ ((¬ v1615 = v1630) → zbool (0 : Int32) ∧ Q (some (.int (0 : Int32))) s1631)))))))))) ∧ ((v36 &&& (63 : Int32)) = (37) → zrc s21 (some σ.2.1) 0 (fun a1641 => zcl C 43 [.ref a1641] Y s21 (zqI (fun v1638 s1639 => zrc s1639 (some s5.2.1) 4 (fun a1648 => zcl C 258 [.ref a1648] Y s1639 (zqI (fun v1645 s1646 => ((v1638 = v1645) → j39 s1646) ∧ ((¬ v1638 = v1645) → zbool (0 : Int32) ∧ Q (some (.int (0 : Int32))) s1646)))))))) ∧ ((v36 &&& (63 : Int32)) = (38) → zrc s21 (some σ.2.1) 0 (fun a1656 => zcl C 44 [.ref a1656] Y s21 (zqI (fun v1653 s1654 => zrc s1654 (some s5.2.1) 4 (fun a1663 => zcl C 259 [.ref a1663] Y s1654 (zqI (fun v1660 s1661 => ((v1653 = v1660) → j39 s1661) ∧ ((¬ v1653 = v1660) → zbool (0 : Int32) ∧ Q (some (.int (0 : Int32))) s1661)))))))) ∧ ((v36 &&& (63 : Int32)) = (39) → zrc s21 (some σ.2.1) 0 (fun a1671 => zcl C 45 [.ref a1671] Y s21 (zqV (fun s1669 => zrc s1669 (some s5.2.1) 4 (fun a1678 => zcl C 260 [.ref a1678] Y s1669 (zqV (fun s1676 => j39 s1676))))))) ∧ ((v36 &&& (63 : Int32)) = (40) → zrc s21 (some σ.2.1) 0 (fun a1685 => zcl C 46 [.ref a1685] Y s21 (zqI (fun v1682 s1683 => zrc s1683 (some s5.2.1) 4 (fun a1692 => zcl C 261 [.ref a1692] Y s1683 (zqI (fun v1689 s1690 => ((v1682 = v1689) → j39 s1690) ∧ ((¬ v1682 = v1689) → zbool (0 : Int32) ∧ Q (some (.int (0 : Int32))) s1690)))))))) ∧ ((v36 &&& (63 : Int32)) = (41) → zaI s21 0 (some b) (p20 + (1 : Int32)) (fun v1703 => zcl C 21 [va_rf (some σ.2.1), .int v1703, va_rf (some s13.2.1)] Y s21 (zqI (fun v1705 s1706 => zaI s1706 0 (some b) (p20 + (1 : Int32)) (fun v1714 => zrc s1706 (some s5.2.1) 4 (fun a1719 => zcl C 285 [.ref a1719, .int v1714] Y s1706 (zqI (fun v1716 s1717 => zrc s1717 (some s5.2.1) 4 (fun a1726 => zcl C 156 [.ref a1726] Y s1717 (zqI (fun v1723 s1724 => ((v1723 = v1705) → zJ (fun  (s1731 : zS) => j39 s1731) (fun (j1732 : zS → Prop) => ((¬ v1705 = 0) → j1732 s1724) ∧ ((v1705 = 0) → zaL s1724 (some s13.2.1) (0 : Int32) (fun v1740 => (((lg_cmp v1740 v1716.toInt64) = 0) → j1732 s1724) ∧ ((¬ (lg_cmp v1740 v1716.toInt64) = 0) → zbool (0 : Int32) ∧ Q (some (.int (0 : Int32))) s1724))))) ∧ ((¬ v1723 = v1705) → zbool (0 : Int32) ∧ Q (some (.int (0 : Int32))) s1724))))))))))))))))) n (0 : Int32) s17)))))))))
set_option maxHeartbeats 40000000 in
theorem wkLaw {X : zX} {C : zO} {d b : Nat} {Q : zQ} {Y : zY} {σ : zS} (hX : zOk X "PackingDuelLaw" code 9 (some .boolean)) (hR : zR X Q Y) (hTb : ∀ x ∈ X.c.exceptionTable.toList, False) (hd : zDep X d) (hC : zSound X.l X.g d C) (hw : zbLaw (zpg X.g) C b Q Y σ) : zW X σ 0 [some (va_rf (some b)), none, none, none, none, none, none, none, none] [] := by
  unfold zbLaw at hw
  refine z_new hX zc0 dL_law_0 q185 q186 q130 (fs := [va_rf none, va_rf none, va_rf none, va_rf none, .int 0, .int 0, va_rf none]) (fun j hj => by have hj : j < 7 := hj; exact zdf0 j hj) hw.1 hw.2.1 (fun z2 => z_nm (fun s1 e3 => ?_))
  have hw := hw.2.2 z2 s1 e3
  refine z_dup hX dL_law_3 (zc_rf _) ?_
  obtain ⟨a7, r8, hw⟩ := hw
  refine z_invI hX hd r8 dL_law_4 (hC 22 _ zm22 _ _ _ _ hw) q187 q188 rfl zh1 q189 q130 zn22 rfl (Nat.le_of_ble_eq_true rfl) (st := [va_rf (some σ.2.1)]) rfl (zcs8 (Nat.le_of_ble_eq_true rfl)) rfl (zkV (fun s5 hw => ?_)) (zout hX hR hTb)
  refine z_astore_n hX dL_law_7 rfl (i := 1) (Nat.le_of_ble_eq_true rfl) (zc_rf _) (ls2 := [some (va_rf (some b)), some (va_rf (some σ.2.1)), none, none, none, none, none, none, none]) rfl ?_
  refine z_new hX zc4 dL_law_8 q2449 q2450 q136 (fs := [va_rf none, va_rf none, va_rf none, va_rf none, .int 0, .int 0, .int 0, va_rf none, va_rf none, va_rf none, va_rf none, va_rf none, va_rf none, va_rf none, va_rf none, .int 0, va_rf none, va_rf none, va_rf none, .long 0, .long 0, .int 0, .int 0, .int 0, va_rf none, va_rf none, .int 0, va_rf none, .int 0, .int 0, .int 0, .int 0, .int 0, .int 0, .int 0, .int 0, .int 0, va_rf none, va_rf none, va_rf none, .int 0]) (fun j hj => by have hj : j < 41 := hj; exact zdf4 j hj) hw.1 hw.2.1 (fun z10 => z_nm (fun s9 e11 => ?_))
  have hw := hw.2.2 z10 s9 e11
  refine z_dup hX dL_law_11 (zc_rf _) ?_
  obtain ⟨a15, r16, hw⟩ := hw
  refine z_invI hX hd r16 dL_law_12 (hC 154 _ zm154 _ _ _ _ hw) q2451 q2452 rfl zh7 q2453 q136 zn154 rfl (Nat.le_of_ble_eq_true rfl) (st := [va_rf (some s5.2.1)]) rfl (zcs8 (Nat.le_of_ble_eq_true rfl)) rfl (zkV (fun s13 hw => ?_)) (zout hX hR hTb)
  refine z_astore_n hX dL_law_15 rfl (i := 2) (Nat.le_of_ble_eq_true rfl) (zc_rf _) (ls2 := [some (va_rf (some b)), some (va_rf (some σ.2.1)), some (va_rf (some s5.2.1)), none, none, none, none, none, none]) rfl ?_
  refine z_iconst hX (v := (1 : Int32)) dL_law_16 (by decide) ?_
  refine z_newL hX dL_law_17 q590 hw.1 hw.2.1 hw.2.2.1 hw.2.2.2.1 (fun z18 => z_nm (fun s17 e19 => ?_))
  have hw := hw.2.2.2.2 z18 s17 e19
  refine z_astore_n hX dL_law_19 rfl (i := 3) (Nat.le_of_ble_eq_true rfl) (zc_rf _) (ls2 := [some (va_rf (some b)), some (va_rf (some σ.2.1)), some (va_rf (some s5.2.1)), some (va_rf (some s13.2.1)), none, none, none, none, none]) rfl ?_
  refine z_iconst hX (v := (0 : Int32)) dL_law_20 (by decide) ?_
  refine z_istore hX dL_law_21 (i := 4) (Nat.le_of_ble_eq_true rfl) (zc_rf _) (ls2 := [some (va_rf (some b)), some (va_rf (some σ.2.1)), some (va_rf (some s5.2.1)), some (va_rf (some s13.2.1)), some (.int (0 : Int32)), none, none, none, none]) rfl ?_
  obtain ⟨n1743, hw⟩ := hw
  refine zIt_w (P := fun (j : Int32 → zS → Prop) => ∀ (p20 : Int32) (s21 : zS), j p20 s21 → zW X s21 23 [some (va_rf (some b)), some (va_rf (some σ.2.1)), some (va_rf (some s5.2.1)), some (va_rf (some s13.2.1)), some (.int p20), none, none, none, none] []) (fun _ _ h => h.elim) (fun rec22 hrec22 p20 s21 hw => ?_) n1743 _ _ hw
  refine z_iload hX dL_law_23 (i := 4) rfl ?_
  refine z_aload_n hX dL_law_25 rfl (i := 0) rfl ?_
  obtain ⟨a23, n24, r25, m26, hw⟩ := hw
  refine z_alen hX 0 dL_law_26 r25 m26 ?_
  revert hw
  generalize nI n24.1 = v27
  intro hw
  refine z_bipush hX (v := (6 : Int32)) dL_law_27 (by decide) ?_
  refine z_isub hX dL_law_29 ?_
  refine z_icmp_gt hX dL_law_30 (tgt := 2130) rfl (fun c29 => ?_) (fun c29 => ?_)
  · have hw := hw.1 c29
    refine z_iconst hX (v := (1 : Int32)) dL_law_2130 (by decide) ?_
    exact z_ireturn hX hR dL_law_2131 (zn_z hw.1) hw.2
  · have hw := hw.2 c29
    refine z_aload_n hX dL_law_33 rfl (i := 0) rfl ?_
    refine z_iload hX dL_law_34 (i := 4) rfl ?_
    obtain ⟨a30, n31, f32, r33, m34, i35, hw⟩ := hw
    refine z_iald hX dL_law_36 r33 m34 i35 ?_
    revert hw
    generalize f32 (Int32.toNatClampNeg p20) = v36
    intro hw
    refine z_bipush hX (v := (63 : Int32)) dL_law_37 (by decide) ?_
    refine z_iand hX dL_law_39 ?_
    refine zJ_w (P := fun (j : zS → Prop) => ∀  (s38 : zS), j  s38 → zW X s38 2124 [some (va_rf (some b)), some (va_rf (some σ.2.1)), some (va_rf (some s5.2.1)), some (va_rf (some s13.2.1)), some (.int p20), none, none, none, none] []) hw (fun  s38 hw => ?_) (fun j39 hj39 hw => ?_)
    · obtain ⟨v40, e41⟩ : ∃ y : Int32, y = p20 + (6 : Int32) := ⟨_, rfl⟩
      refine z_iinc hX dL_law_2124 (i := 4) (v := v40) rfl (by rw [e41]; rfl) (Nat.le_of_ble_eq_true rfl) (zc_rf _) (ls2 := [some (va_rf (some b)), some (va_rf (some σ.2.1)), some (va_rf (some s5.2.1)), some (va_rf (some s13.2.1)), some (.int v40), none, none, none, none]) rfl ?_
      have hw := hw v40 e41
      refine z_goto hX dL_law_2127 (tgt := 23) rfl ?_
      exact hrec22 _ _ hw
    · rcases zsw (v36 &&& (63 : Int32)) 0 42 (by decide) (by decide) with c42 | ⟨j43, hj43, c42⟩
      · have c42 : (v36 &&& (63 : Int32)).toInt < (0) ∨ (41) < (v36 &&& (63 : Int32)).toInt := by omega
        refine z_tableOut hX dL_law_40 c42 (tgt := 2124) rfl ?_
        have hw := hw.1 c42
        exact hj39  _ hw
      · match j43, hj43, c42 with
        | 0, _, c42 =>
          have c42 : (v36 &&& (63 : Int32)) = (0) := c42
          refine z_tableIn hX dL_law_40 (by rw [c42]; decide) (by rw [c42]; decide) (off := 184) (by rw [c42]; rfl) (tgt := 224) rfl ?_
          have hw := hw.2.1 c42
          refine z_aload_n hX dL_law_224 rfl (i := 1) rfl ?_
          refine z_aload_n hX dL_law_225 rfl (i := 0) rfl ?_
          refine z_iload hX dL_law_226 (i := 4) rfl ?_
          refine z_iconst hX (v := (1 : Int32)) dL_law_228 (by decide) ?_
          refine z_iadd hX dL_law_229 ?_
          obtain ⟨a44, n45, f46, r47, m48, i49, hw⟩ := hw
          refine z_iald hX dL_law_230 r47 m48 i49 ?_
          revert hw
          generalize f46 (Int32.toNatClampNeg (p20 + (1 : Int32))) = v50
          intro hw
          refine z_aload_n hX dL_law_231 rfl (i := 0) rfl ?_
          refine z_iload hX dL_law_232 (i := 4) rfl ?_
          refine z_iconst hX (v := (2 : Int32)) dL_law_234 (by decide) ?_
          refine z_iadd hX dL_law_235 ?_
          obtain ⟨a52, n53, f54, r55, m56, i57, hw⟩ := hw
          refine z_iald hX dL_law_236 r55 m56 i57 ?_
          revert hw
          generalize f54 (Int32.toNatClampNeg (p20 + (2 : Int32))) = v58
          intro hw
          refine z_aload_n hX dL_law_237 rfl (i := 0) rfl ?_
          refine z_iload hX dL_law_238 (i := 4) rfl ?_
          refine z_iconst hX (v := (3 : Int32)) dL_law_240 (by decide) ?_
          refine z_iadd hX dL_law_241 ?_
          obtain ⟨a60, n61, f62, r63, m64, i65, hw⟩ := hw
          refine z_iald hX dL_law_242 r63 m64 i65 ?_
          revert hw
          generalize f62 (Int32.toNatClampNeg (p20 + (3 : Int32))) = v66
          intro hw
          refine z_aload_n hX dL_law_243 rfl (i := 0) rfl ?_
          refine z_iload hX dL_law_244 (i := 4) rfl ?_
          refine z_iconst hX (v := (4 : Int32)) dL_law_246 (by decide) ?_
          refine z_iadd hX dL_law_247 ?_
          obtain ⟨a68, n69, f70, r71, m72, i73, hw⟩ := hw
          refine z_iald hX dL_law_248 r71 m72 i73 ?_
          revert hw
          generalize f70 (Int32.toNatClampNeg (p20 + (4 : Int32))) = v74
          intro hw
          refine z_aload_n hX dL_law_249 rfl (i := 0) rfl ?_
          refine z_iload hX dL_law_250 (i := 4) rfl ?_
          refine z_iconst hX (v := (5 : Int32)) dL_law_252 (by decide) ?_
          refine z_iadd hX dL_law_253 ?_
          obtain ⟨a76, n77, f78, r79, m80, i81, hw⟩ := hw
          refine z_iald hX dL_law_254 r79 m80 i81 ?_
          revert hw
          generalize f78 (Int32.toNatClampNeg (p20 + (5 : Int32))) = v82
          intro hw
          obtain ⟨a87, f88, r89, m90, hw⟩ := hw
          refine z_invV hX hd r89 (ci := 0) rfl rfl m90 dL_law_255 (hC 23 _ zm23 _ _ _ _ hw) q331 q332 q333 zh1 q334 q130 zn23 rfl (Nat.le_of_ble_eq_true rfl) (st := []) rfl (zcs8 (Nat.le_of_ble_eq_true rfl)) rfl (zkI (fun v84 s85 hw => ?_)) (zout hX hR hTb)
          refine z_aload_n hX dL_law_258 rfl (i := 2) rfl ?_
          refine z_aload_n hX dL_law_259 rfl (i := 0) rfl ?_
          refine z_iload hX dL_law_260 (i := 4) rfl ?_
          refine z_iconst hX (v := (1 : Int32)) dL_law_262 (by decide) ?_
          refine z_iadd hX dL_law_263 ?_
          obtain ⟨a91, n92, f93, r94, m95, i96, hw⟩ := hw
          refine z_iald hX dL_law_264 r94 m95 i96 ?_
          revert hw
          generalize f93 (Int32.toNatClampNeg (p20 + (1 : Int32))) = v97
          intro hw
          refine z_aload_n hX dL_law_265 rfl (i := 0) rfl ?_
          refine z_iload hX dL_law_266 (i := 4) rfl ?_
          refine z_iconst hX (v := (2 : Int32)) dL_law_268 (by decide) ?_
          refine z_iadd hX dL_law_269 ?_
          obtain ⟨a99, n100, f101, r102, m103, i104, hw⟩ := hw
          refine z_iald hX dL_law_270 r102 m103 i104 ?_
          revert hw
          generalize f101 (Int32.toNatClampNeg (p20 + (2 : Int32))) = v105
          intro hw
          refine z_aload_n hX dL_law_271 rfl (i := 0) rfl ?_
          refine z_iload hX dL_law_272 (i := 4) rfl ?_
          refine z_iconst hX (v := (3 : Int32)) dL_law_274 (by decide) ?_
          refine z_iadd hX dL_law_275 ?_
          obtain ⟨a107, n108, f109, r110, m111, i112, hw⟩ := hw
          refine z_iald hX dL_law_276 r110 m111 i112 ?_
          revert hw
          generalize f109 (Int32.toNatClampNeg (p20 + (3 : Int32))) = v113
          intro hw
          refine z_aload_n hX dL_law_277 rfl (i := 0) rfl ?_
          refine z_iload hX dL_law_278 (i := 4) rfl ?_
          refine z_iconst hX (v := (4 : Int32)) dL_law_280 (by decide) ?_
          refine z_iadd hX dL_law_281 ?_
          obtain ⟨a115, n116, f117, r118, m119, i120, hw⟩ := hw
          refine z_iald hX dL_law_282 r118 m119 i120 ?_
          revert hw
          generalize f117 (Int32.toNatClampNeg (p20 + (4 : Int32))) = v121
          intro hw
          refine z_aload_n hX dL_law_283 rfl (i := 0) rfl ?_
          refine z_iload hX dL_law_284 (i := 4) rfl ?_
          refine z_iconst hX (v := (5 : Int32)) dL_law_286 (by decide) ?_
          refine z_iadd hX dL_law_287 ?_
          obtain ⟨a123, n124, f125, r126, m127, i128, hw⟩ := hw
          refine z_iald hX dL_law_288 r126 m127 i128 ?_
          revert hw
          generalize f125 (Int32.toNatClampNeg (p20 + (5 : Int32))) = v129
          intro hw
          obtain ⟨a134, f135, r136, m137, hw⟩ := hw
          refine z_invV hX hd r136 (ci := 4) rfl rfl m137 dL_law_289 (hC 262 _ zm262 _ _ _ _ hw) q3014 q3015 q3016 zh7 q3017 q136 zn262 rfl (Nat.le_of_ble_eq_true rfl) (st := [.int v84]) rfl (zcs8 (Nat.le_of_ble_eq_true rfl)) rfl (zkI (fun v131 s132 hw => ?_)) (zout hX hR hTb)
          refine z_icmp_eq hX dL_law_292 (tgt := 2124) rfl (fun c138 => ?_) (fun c138 => ?_)
          · have hw := hw.1 c138
            exact hj39  _ hw
          · have hw := hw.2 c138
            refine z_iconst hX (v := (0 : Int32)) dL_law_295 (by decide) ?_
            exact z_ireturn hX hR dL_law_296 (zn_z hw.1) hw.2
        | 1, _, c42 =>
          have c42 : (v36 &&& (63 : Int32)) = (1) := c42
          refine z_tableIn hX dL_law_40 (by rw [c42]; decide) (by rw [c42]; decide) (off := 257) (by rw [c42]; rfl) (tgt := 297) rfl ?_
          have hw := hw.2.2.1 c42
          refine z_aload_n hX dL_law_297 rfl (i := 1) rfl ?_
          refine z_aload_n hX dL_law_298 rfl (i := 0) rfl ?_
          refine z_iload hX dL_law_299 (i := 4) rfl ?_
          refine z_iconst hX (v := (1 : Int32)) dL_law_301 (by decide) ?_
          refine z_iadd hX dL_law_302 ?_
          obtain ⟨a139, n140, f141, r142, m143, i144, hw⟩ := hw
          refine z_iald hX dL_law_303 r142 m143 i144 ?_
          revert hw
          generalize f141 (Int32.toNatClampNeg (p20 + (1 : Int32))) = v145
          intro hw
          refine z_aload_n hX dL_law_304 rfl (i := 3) rfl ?_
          refine z_invSX hX hd dL_law_305 (hC 0 _ zm0 _ _ _ _ hw) q1053 q1054 zh0 q1055 q129 zn0 rfl (Nat.le_of_ble_eq_true rfl) (st := []) rfl (zcs8 (Nat.le_of_ble_eq_true rfl)) rfl (zkI (fun v147 s148 hw => ?_)) (zout hX hR hTb)
          refine z_istore hX dL_law_308 (i := 5) (Nat.le_of_ble_eq_true rfl) rfl (ls2 := [some (va_rf (some b)), some (va_rf (some σ.2.1)), some (va_rf (some s5.2.1)), some (va_rf (some s13.2.1)), some (.int p20), some (.int v147), none, none, none]) rfl ?_
          refine z_aload_n hX dL_law_310 rfl (i := 2) rfl ?_
          refine z_aload_n hX dL_law_311 rfl (i := 0) rfl ?_
          refine z_iload hX dL_law_312 (i := 4) rfl ?_
          refine z_iconst hX (v := (1 : Int32)) dL_law_314 (by decide) ?_
          refine z_iadd hX dL_law_315 ?_
          obtain ⟨a150, n151, f152, r153, m154, i155, hw⟩ := hw
          refine z_iald hX dL_law_316 r153 m154 i155 ?_
          revert hw
          generalize f152 (Int32.toNatClampNeg (p20 + (1 : Int32))) = v156
          intro hw
          obtain ⟨a161, f162, r163, m164, hw⟩ := hw
          refine z_invV hX hd r163 (ci := 4) rfl rfl m164 dL_law_317 (hC 264 _ zm264 _ _ _ _ hw) q3022 q3023 q3024 zh7 q3025 q136 zn264 rfl (Nat.le_of_ble_eq_true rfl) (st := []) rfl (zcs8 (Nat.le_of_ble_eq_true rfl)) rfl (zkI (fun v158 s159 hw => ?_)) (zout hX hR hTb)
          refine z_istore hX dL_law_320 (i := 6) (Nat.le_of_ble_eq_true rfl) rfl (ls2 := [some (va_rf (some b)), some (va_rf (some σ.2.1)), some (va_rf (some s5.2.1)), some (va_rf (some s13.2.1)), some (.int p20), some (.int v147), some (.int v158), none, none]) rfl ?_
          refine z_aload_n hX dL_law_322 rfl (i := 2) rfl ?_
          obtain ⟨a168, f169, r170, m171, hw⟩ := hw
          refine z_invV hX hd r170 (ci := 4) rfl rfl m171 dL_law_323 (hC 156 _ zm156 _ _ _ _ hw) q2593 q2594 q2595 zh7 q2596 q136 zn156 rfl (Nat.le_of_ble_eq_true rfl) (st := []) rfl (zcs8 (Nat.le_of_ble_eq_true rfl)) rfl (zkI (fun v165 s166 hw => ?_)) (zout hX hR hTb)
          refine z_iload hX dL_law_326 (i := 5) rfl ?_
          refine z_icmp_eq hX dL_law_328 (tgt := 333) rfl (fun c172 => ?_) (fun c172 => ?_)
          · have hw := hw.1 c172
            refine z_iload hX dL_law_333 (i := 5) rfl ?_
            refine zJ_w (P := fun (j : zS → Prop) => ∀  (s173 : zS), j  s173 → zW X s173 350 [some (va_rf (some b)), some (va_rf (some σ.2.1)), some (va_rf (some s5.2.1)), some (va_rf (some s13.2.1)), some (.int p20), none, none, none, none] []) hw (fun  s173 hw => ?_) (fun j174 hj174 hw => ?_)
            · refine z_goto hX dL_law_350 (tgt := 2124) rfl ?_
              exact hj39  _ hw
            · refine z_if_ne hX dL_law_335 (tgt := 350) rfl (fun c175 => ?_) (fun c175 => ?_)
              · have hw := hw.1 c175
                refine z_sub (ls' := [some (va_rf (some b)), some (va_rf (some σ.2.1)), some (va_rf (some s5.2.1)), some (va_rf (some s13.2.1)), some (.int p20), none, none, none, none]) (zsS (zsS (zsS (zsS (zsS (zsN (zsN (zsN (zsN (zs0)))))))))) ?_
                exact hj174  _ hw
              · have hw := hw.2 c175
                refine z_aload_n hX dL_law_338 rfl (i := 3) rfl ?_
                refine z_iconst hX (v := (0 : Int32)) dL_law_339 (by decide) ?_
                obtain ⟨a176, n177, f178, r179, m180, i181, hw⟩ := hw
                refine z_lald hX dL_law_340 r179 m180 i181 ?_
                revert hw
                generalize f178 (Int32.toNatClampNeg (0 : Int32)) = v182
                intro hw
                refine z_iload hX dL_law_341 (i := 6) rfl ?_
                refine z_i2l hX dL_law_343 ?_
                refine z_lcmp hX dL_law_344 ?_
                refine z_if_eq hX dL_law_345 (tgt := 350) rfl (fun c184 => ?_) (fun c184 => ?_)
                · have hw := hw.1 c184
                  refine z_sub (ls' := [some (va_rf (some b)), some (va_rf (some σ.2.1)), some (va_rf (some s5.2.1)), some (va_rf (some s13.2.1)), some (.int p20), none, none, none, none]) (zsS (zsS (zsS (zsS (zsS (zsN (zsN (zsN (zsN (zs0)))))))))) ?_
                  exact hj174  _ hw
                · have hw := hw.2 c184
                  refine z_iconst hX (v := (0 : Int32)) dL_law_348 (by decide) ?_
                  exact z_ireturn hX hR dL_law_349 (zn_z hw.1) hw.2
          · have hw := hw.2 c172
            refine z_iconst hX (v := (0 : Int32)) dL_law_331 (by decide) ?_
            exact z_ireturn hX hR dL_law_332 (zn_z hw.1) hw.2
        | 2, _, c42 =>
          have c42 : (v36 &&& (63 : Int32)) = (2) := c42
          refine z_tableIn hX dL_law_40 (by rw [c42]; decide) (by rw [c42]; decide) (off := 313) (by rw [c42]; rfl) (tgt := 353) rfl ?_
          have hw := hw.2.2.2.1 c42
          refine z_aload_n hX dL_law_353 rfl (i := 1) rfl ?_
          obtain ⟨a188, f189, r190, m191, hw⟩ := hw
          refine z_invV hX hd r190 (ci := 0) rfl rfl m191 dL_law_354 (hC 25 _ zm25 _ _ _ _ hw) q339 q340 q341 zh1 q342 q130 zn25 rfl (Nat.le_of_ble_eq_true rfl) (st := []) rfl (zcs8 (Nat.le_of_ble_eq_true rfl)) rfl (zkI (fun v185 s186 hw => ?_)) (zout hX hR hTb)
          refine z_aload_n hX dL_law_357 rfl (i := 2) rfl ?_
          obtain ⟨a195, f196, r197, m198, hw⟩ := hw
          refine z_invV hX hd r197 (ci := 4) rfl rfl m198 dL_law_358 (hC 263 _ zm263 _ _ _ _ hw) q3018 q3019 q3020 zh7 q3021 q136 zn263 rfl (Nat.le_of_ble_eq_true rfl) (st := [.int v185]) rfl (zcs8 (Nat.le_of_ble_eq_true rfl)) rfl (zkI (fun v192 s193 hw => ?_)) (zout hX hR hTb)
          refine z_icmp_eq hX dL_law_361 (tgt := 2124) rfl (fun c199 => ?_) (fun c199 => ?_)
          · have hw := hw.1 c199
            exact hj39  _ hw
          · have hw := hw.2 c199
            refine z_iconst hX (v := (0 : Int32)) dL_law_364 (by decide) ?_
            exact z_ireturn hX hR dL_law_365 (zn_z hw.1) hw.2
        | 3, _, c42 =>
          have c42 : (v36 &&& (63 : Int32)) = (3) := c42
          refine z_tableIn hX dL_law_40 (by rw [c42]; decide) (by rw [c42]; decide) (off := 326) (by rw [c42]; rfl) (tgt := 366) rfl ?_
          have hw := hw.2.2.2.2.1 c42
          refine z_aload_n hX dL_law_366 rfl (i := 1) rfl ?_
          refine z_aload_n hX dL_law_367 rfl (i := 0) rfl ?_
          refine z_iload hX dL_law_368 (i := 4) rfl ?_
          refine z_iconst hX (v := (1 : Int32)) dL_law_370 (by decide) ?_
          refine z_iadd hX dL_law_371 ?_
          obtain ⟨a200, n201, f202, r203, m204, i205, hw⟩ := hw
          refine z_iald hX dL_law_372 r203 m204 i205 ?_
          revert hw
          generalize f202 (Int32.toNatClampNeg (p20 + (1 : Int32))) = v206
          intro hw
          refine z_aload_n hX dL_law_373 rfl (i := 3) rfl ?_
          refine z_invSX hX hd dL_law_374 (hC 1 _ zm1 _ _ _ _ hw) q1631 q1632 zh0 q1633 q129 zn1 rfl (Nat.le_of_ble_eq_true rfl) (st := []) rfl (zcs8 (Nat.le_of_ble_eq_true rfl)) rfl (zkI (fun v208 s209 hw => ?_)) (zout hX hR hTb)
          refine z_istore hX dL_law_377 (i := 5) (Nat.le_of_ble_eq_true rfl) rfl (ls2 := [some (va_rf (some b)), some (va_rf (some σ.2.1)), some (va_rf (some s5.2.1)), some (va_rf (some s13.2.1)), some (.int p20), some (.int v208), none, none, none]) rfl ?_
          refine z_aload_n hX dL_law_379 rfl (i := 2) rfl ?_
          refine z_aload_n hX dL_law_380 rfl (i := 0) rfl ?_
          refine z_iload hX dL_law_381 (i := 4) rfl ?_
          refine z_iconst hX (v := (1 : Int32)) dL_law_383 (by decide) ?_
          refine z_iadd hX dL_law_384 ?_
          obtain ⟨a211, n212, f213, r214, m215, i216, hw⟩ := hw
          refine z_iald hX dL_law_385 r214 m215 i216 ?_
          revert hw
          generalize f213 (Int32.toNatClampNeg (p20 + (1 : Int32))) = v217
          intro hw
          obtain ⟨a222, f223, r224, m225, hw⟩ := hw
          refine z_invV hX hd r224 (ci := 4) rfl rfl m225 dL_law_386 (hC 157 _ zm157 _ _ _ _ hw) q2597 q2598 q2599 zh7 q2600 q136 zn157 rfl (Nat.le_of_ble_eq_true rfl) (st := []) rfl (zcs8 (Nat.le_of_ble_eq_true rfl)) rfl (zkI (fun v219 s220 hw => ?_)) (zout hX hR hTb)
          refine z_istore hX dL_law_389 (i := 6) (Nat.le_of_ble_eq_true rfl) rfl (ls2 := [some (va_rf (some b)), some (va_rf (some σ.2.1)), some (va_rf (some s5.2.1)), some (va_rf (some s13.2.1)), some (.int p20), some (.int v208), some (.int v219), none, none]) rfl ?_
          refine z_aload_n hX dL_law_391 rfl (i := 2) rfl ?_
          obtain ⟨a229, f230, r231, m232, hw⟩ := hw
          refine z_invV hX hd r231 (ci := 4) rfl rfl m232 dL_law_392 (hC 156 _ zm156 _ _ _ _ hw) q2593 q2594 q2595 zh7 q2596 q136 zn156 rfl (Nat.le_of_ble_eq_true rfl) (st := []) rfl (zcs8 (Nat.le_of_ble_eq_true rfl)) rfl (zkI (fun v226 s227 hw => ?_)) (zout hX hR hTb)
          refine z_iload hX dL_law_395 (i := 5) rfl ?_
          refine z_icmp_eq hX dL_law_397 (tgt := 402) rfl (fun c233 => ?_) (fun c233 => ?_)
          · have hw := hw.1 c233
            refine z_iload hX dL_law_402 (i := 5) rfl ?_
            refine zJ_w (P := fun (j : zS → Prop) => ∀  (s234 : zS), j  s234 → zW X s234 419 [some (va_rf (some b)), some (va_rf (some σ.2.1)), some (va_rf (some s5.2.1)), some (va_rf (some s13.2.1)), some (.int p20), none, none, none, none] []) hw (fun  s234 hw => ?_) (fun j235 hj235 hw => ?_)
            · refine z_goto hX dL_law_419 (tgt := 2124) rfl ?_
              exact hj39  _ hw
            · refine z_if_ne hX dL_law_404 (tgt := 419) rfl (fun c236 => ?_) (fun c236 => ?_)
              · have hw := hw.1 c236
                refine z_sub (ls' := [some (va_rf (some b)), some (va_rf (some σ.2.1)), some (va_rf (some s5.2.1)), some (va_rf (some s13.2.1)), some (.int p20), none, none, none, none]) (zsS (zsS (zsS (zsS (zsS (zsN (zsN (zsN (zsN (zs0)))))))))) ?_
                exact hj235  _ hw
              · have hw := hw.2 c236
                refine z_aload_n hX dL_law_407 rfl (i := 3) rfl ?_
                refine z_iconst hX (v := (0 : Int32)) dL_law_408 (by decide) ?_
                obtain ⟨a237, n238, f239, r240, m241, i242, hw⟩ := hw
                refine z_lald hX dL_law_409 r240 m241 i242 ?_
                revert hw
                generalize f239 (Int32.toNatClampNeg (0 : Int32)) = v243
                intro hw
                refine z_iload hX dL_law_410 (i := 6) rfl ?_
                refine z_i2l hX dL_law_412 ?_
                refine z_lcmp hX dL_law_413 ?_
                refine z_if_eq hX dL_law_414 (tgt := 419) rfl (fun c245 => ?_) (fun c245 => ?_)
                · have hw := hw.1 c245
                  refine z_sub (ls' := [some (va_rf (some b)), some (va_rf (some σ.2.1)), some (va_rf (some s5.2.1)), some (va_rf (some s13.2.1)), some (.int p20), none, none, none, none]) (zsS (zsS (zsS (zsS (zsS (zsN (zsN (zsN (zsN (zs0)))))))))) ?_
                  exact hj235  _ hw
                · have hw := hw.2 c245
                  refine z_iconst hX (v := (0 : Int32)) dL_law_417 (by decide) ?_
                  exact z_ireturn hX hR dL_law_418 (zn_z hw.1) hw.2
          · have hw := hw.2 c233
            refine z_iconst hX (v := (0 : Int32)) dL_law_400 (by decide) ?_
            exact z_ireturn hX hR dL_law_401 (zn_z hw.1) hw.2
        | 4, _, c42 =>
          have c42 : (v36 &&& (63 : Int32)) = (4) := c42
          refine z_tableIn hX dL_law_40 (by rw [c42]; decide) (by rw [c42]; decide) (off := 382) (by rw [c42]; rfl) (tgt := 422) rfl ?_
          have hw := hw.2.2.2.2.2.1 c42
          refine z_aload_n hX dL_law_422 rfl (i := 1) rfl ?_
          refine z_aload_n hX dL_law_423 rfl (i := 0) rfl ?_
          refine z_iload hX dL_law_424 (i := 4) rfl ?_
          refine z_iconst hX (v := (1 : Int32)) dL_law_426 (by decide) ?_
          refine z_iadd hX dL_law_427 ?_
          obtain ⟨a246, n247, f248, r249, m250, i251, hw⟩ := hw
          refine z_iald hX dL_law_428 r249 m250 i251 ?_
          revert hw
          generalize f248 (Int32.toNatClampNeg (p20 + (1 : Int32))) = v252
          intro hw
          refine z_aload_n hX dL_law_429 rfl (i := 0) rfl ?_
          refine z_iload hX dL_law_430 (i := 4) rfl ?_
          refine z_iconst hX (v := (2 : Int32)) dL_law_432 (by decide) ?_
          refine z_iadd hX dL_law_433 ?_
          obtain ⟨a254, n255, f256, r257, m258, i259, hw⟩ := hw
          refine z_iald hX dL_law_434 r257 m258 i259 ?_
          revert hw
          generalize f256 (Int32.toNatClampNeg (p20 + (2 : Int32))) = v260
          intro hw
          refine z_aload_n hX dL_law_435 rfl (i := 3) rfl ?_
          refine z_invSX hX hd dL_law_436 (hC 2 _ zm2 _ _ _ _ hw) q1645 q1646 zh0 q1647 q129 zn2 rfl (Nat.le_of_ble_eq_true rfl) (st := []) rfl (zcs8 (Nat.le_of_ble_eq_true rfl)) rfl (zkI (fun v262 s263 hw => ?_)) (zout hX hR hTb)
          refine z_istore hX dL_law_439 (i := 5) (Nat.le_of_ble_eq_true rfl) rfl (ls2 := [some (va_rf (some b)), some (va_rf (some σ.2.1)), some (va_rf (some s5.2.1)), some (va_rf (some s13.2.1)), some (.int p20), some (.int v262), none, none, none]) rfl ?_
          refine z_aload_n hX dL_law_441 rfl (i := 2) rfl ?_
          refine z_aload_n hX dL_law_442 rfl (i := 0) rfl ?_
          refine z_iload hX dL_law_443 (i := 4) rfl ?_
          refine z_iconst hX (v := (1 : Int32)) dL_law_445 (by decide) ?_
          refine z_iadd hX dL_law_446 ?_
          obtain ⟨a265, n266, f267, r268, m269, i270, hw⟩ := hw
          refine z_iald hX dL_law_447 r268 m269 i270 ?_
          revert hw
          generalize f267 (Int32.toNatClampNeg (p20 + (1 : Int32))) = v271
          intro hw
          refine z_aload_n hX dL_law_448 rfl (i := 0) rfl ?_
          refine z_iload hX dL_law_449 (i := 4) rfl ?_
          refine z_iconst hX (v := (2 : Int32)) dL_law_451 (by decide) ?_
          refine z_iadd hX dL_law_452 ?_
          obtain ⟨a273, n274, f275, r276, m277, i278, hw⟩ := hw
          refine z_iald hX dL_law_453 r276 m277 i278 ?_
          revert hw
          generalize f275 (Int32.toNatClampNeg (p20 + (2 : Int32))) = v279
          intro hw
          obtain ⟨a284, f285, r286, m287, hw⟩ := hw
          refine z_invV hX hd r286 (ci := 4) rfl rfl m287 dL_law_454 (hC 164 _ zm164 _ _ _ _ hw) q2624 q2625 q2626 zh7 q2627 q136 zn164 rfl (Nat.le_of_ble_eq_true rfl) (st := []) rfl (zcs8 (Nat.le_of_ble_eq_true rfl)) rfl (zkI (fun v281 s282 hw => ?_)) (zout hX hR hTb)
          refine z_istore hX dL_law_457 (i := 6) (Nat.le_of_ble_eq_true rfl) rfl (ls2 := [some (va_rf (some b)), some (va_rf (some σ.2.1)), some (va_rf (some s5.2.1)), some (va_rf (some s13.2.1)), some (.int p20), some (.int v262), some (.int v281), none, none]) rfl ?_
          refine z_aload_n hX dL_law_459 rfl (i := 2) rfl ?_
          obtain ⟨a291, f292, r293, m294, hw⟩ := hw
          refine z_invV hX hd r293 (ci := 4) rfl rfl m294 dL_law_460 (hC 156 _ zm156 _ _ _ _ hw) q2593 q2594 q2595 zh7 q2596 q136 zn156 rfl (Nat.le_of_ble_eq_true rfl) (st := []) rfl (zcs8 (Nat.le_of_ble_eq_true rfl)) rfl (zkI (fun v288 s289 hw => ?_)) (zout hX hR hTb)
          refine z_iload hX dL_law_463 (i := 5) rfl ?_
          refine z_icmp_eq hX dL_law_465 (tgt := 470) rfl (fun c295 => ?_) (fun c295 => ?_)
          · have hw := hw.1 c295
            refine z_iload hX dL_law_470 (i := 5) rfl ?_
            refine zJ_w (P := fun (j : zS → Prop) => ∀  (s296 : zS), j  s296 → zW X s296 487 [some (va_rf (some b)), some (va_rf (some σ.2.1)), some (va_rf (some s5.2.1)), some (va_rf (some s13.2.1)), some (.int p20), none, none, none, none] []) hw (fun  s296 hw => ?_) (fun j297 hj297 hw => ?_)
            · refine z_goto hX dL_law_487 (tgt := 2124) rfl ?_
              exact hj39  _ hw
            · refine z_if_ne hX dL_law_472 (tgt := 487) rfl (fun c298 => ?_) (fun c298 => ?_)
              · have hw := hw.1 c298
                refine z_sub (ls' := [some (va_rf (some b)), some (va_rf (some σ.2.1)), some (va_rf (some s5.2.1)), some (va_rf (some s13.2.1)), some (.int p20), none, none, none, none]) (zsS (zsS (zsS (zsS (zsS (zsN (zsN (zsN (zsN (zs0)))))))))) ?_
                exact hj297  _ hw
              · have hw := hw.2 c298
                refine z_aload_n hX dL_law_475 rfl (i := 3) rfl ?_
                refine z_iconst hX (v := (0 : Int32)) dL_law_476 (by decide) ?_
                obtain ⟨a299, n300, f301, r302, m303, i304, hw⟩ := hw
                refine z_lald hX dL_law_477 r302 m303 i304 ?_
                revert hw
                generalize f301 (Int32.toNatClampNeg (0 : Int32)) = v305
                intro hw
                refine z_iload hX dL_law_478 (i := 6) rfl ?_
                refine z_i2l hX dL_law_480 ?_
                refine z_lcmp hX dL_law_481 ?_
                refine z_if_eq hX dL_law_482 (tgt := 487) rfl (fun c307 => ?_) (fun c307 => ?_)
                · have hw := hw.1 c307
                  refine z_sub (ls' := [some (va_rf (some b)), some (va_rf (some σ.2.1)), some (va_rf (some s5.2.1)), some (va_rf (some s13.2.1)), some (.int p20), none, none, none, none]) (zsS (zsS (zsS (zsS (zsS (zsN (zsN (zsN (zsN (zs0)))))))))) ?_
                  exact hj297  _ hw
                · have hw := hw.2 c307
                  refine z_iconst hX (v := (0 : Int32)) dL_law_485 (by decide) ?_
                  exact z_ireturn hX hR dL_law_486 (zn_z hw.1) hw.2
          · have hw := hw.2 c295
            refine z_iconst hX (v := (0 : Int32)) dL_law_468 (by decide) ?_
            exact z_ireturn hX hR dL_law_469 (zn_z hw.1) hw.2
        | 5, _, c42 =>
          have c42 : (v36 &&& (63 : Int32)) = (5) := c42
          refine z_tableIn hX dL_law_40 (by rw [c42]; decide) (by rw [c42]; decide) (off := 450) (by rw [c42]; rfl) (tgt := 490) rfl ?_
          have hw := hw.2.2.2.2.2.2.1 c42
          refine z_aload_n hX dL_law_490 rfl (i := 1) rfl ?_
          refine z_aload_n hX dL_law_491 rfl (i := 0) rfl ?_
          refine z_iload hX dL_law_492 (i := 4) rfl ?_
          refine z_iconst hX (v := (1 : Int32)) dL_law_494 (by decide) ?_
          refine z_iadd hX dL_law_495 ?_
          obtain ⟨a308, n309, f310, r311, m312, i313, hw⟩ := hw
          refine z_iald hX dL_law_496 r311 m312 i313 ?_
          revert hw
          generalize f310 (Int32.toNatClampNeg (p20 + (1 : Int32))) = v314
          intro hw
          refine z_aload_n hX dL_law_497 rfl (i := 0) rfl ?_
          refine z_iload hX dL_law_498 (i := 4) rfl ?_
          refine z_iconst hX (v := (2 : Int32)) dL_law_500 (by decide) ?_
          refine z_iadd hX dL_law_501 ?_
          obtain ⟨a316, n317, f318, r319, m320, i321, hw⟩ := hw
          refine z_iald hX dL_law_502 r319 m320 i321 ?_
          revert hw
          generalize f318 (Int32.toNatClampNeg (p20 + (2 : Int32))) = v322
          intro hw
          refine z_aload_n hX dL_law_503 rfl (i := 3) rfl ?_
          refine z_invSX hX hd dL_law_504 (hC 3 _ zm3 _ _ _ _ hw) q1658 q1659 zh0 q1660 q129 zn3 rfl (Nat.le_of_ble_eq_true rfl) (st := []) rfl (zcs8 (Nat.le_of_ble_eq_true rfl)) rfl (zkI (fun v324 s325 hw => ?_)) (zout hX hR hTb)
          refine z_istore hX dL_law_507 (i := 5) (Nat.le_of_ble_eq_true rfl) rfl (ls2 := [some (va_rf (some b)), some (va_rf (some σ.2.1)), some (va_rf (some s5.2.1)), some (va_rf (some s13.2.1)), some (.int p20), some (.int v324), none, none, none]) rfl ?_
          refine z_aload_n hX dL_law_509 rfl (i := 2) rfl ?_
          refine z_aload_n hX dL_law_510 rfl (i := 0) rfl ?_
          refine z_iload hX dL_law_511 (i := 4) rfl ?_
          refine z_iconst hX (v := (1 : Int32)) dL_law_513 (by decide) ?_
          refine z_iadd hX dL_law_514 ?_
          obtain ⟨a327, n328, f329, r330, m331, i332, hw⟩ := hw
          refine z_iald hX dL_law_515 r330 m331 i332 ?_
          revert hw
          generalize f329 (Int32.toNatClampNeg (p20 + (1 : Int32))) = v333
          intro hw
          refine z_aload_n hX dL_law_516 rfl (i := 0) rfl ?_
          refine z_iload hX dL_law_517 (i := 4) rfl ?_
          refine z_iconst hX (v := (2 : Int32)) dL_law_519 (by decide) ?_
          refine z_iadd hX dL_law_520 ?_
          obtain ⟨a335, n336, f337, r338, m339, i340, hw⟩ := hw
          refine z_iald hX dL_law_521 r338 m339 i340 ?_
          revert hw
          generalize f337 (Int32.toNatClampNeg (p20 + (2 : Int32))) = v341
          intro hw
          obtain ⟨a346, f347, r348, m349, hw⟩ := hw
          refine z_invV hX hd r348 (ci := 4) rfl rfl m349 dL_law_522 (hC 168 _ zm168 _ _ _ _ hw) q2639 q2640 q2641 zh7 q2642 q136 zn168 rfl (Nat.le_of_ble_eq_true rfl) (st := []) rfl (zcs8 (Nat.le_of_ble_eq_true rfl)) rfl (zkI (fun v343 s344 hw => ?_)) (zout hX hR hTb)
          refine z_istore hX dL_law_525 (i := 6) (Nat.le_of_ble_eq_true rfl) rfl (ls2 := [some (va_rf (some b)), some (va_rf (some σ.2.1)), some (va_rf (some s5.2.1)), some (va_rf (some s13.2.1)), some (.int p20), some (.int v324), some (.int v343), none, none]) rfl ?_
          refine z_aload_n hX dL_law_527 rfl (i := 2) rfl ?_
          obtain ⟨a353, f354, r355, m356, hw⟩ := hw
          refine z_invV hX hd r355 (ci := 4) rfl rfl m356 dL_law_528 (hC 156 _ zm156 _ _ _ _ hw) q2593 q2594 q2595 zh7 q2596 q136 zn156 rfl (Nat.le_of_ble_eq_true rfl) (st := []) rfl (zcs8 (Nat.le_of_ble_eq_true rfl)) rfl (zkI (fun v350 s351 hw => ?_)) (zout hX hR hTb)
          refine z_iload hX dL_law_531 (i := 5) rfl ?_
          refine z_icmp_eq hX dL_law_533 (tgt := 538) rfl (fun c357 => ?_) (fun c357 => ?_)
          · have hw := hw.1 c357
            refine z_iload hX dL_law_538 (i := 5) rfl ?_
            refine zJ_w (P := fun (j : zS → Prop) => ∀  (s358 : zS), j  s358 → zW X s358 555 [some (va_rf (some b)), some (va_rf (some σ.2.1)), some (va_rf (some s5.2.1)), some (va_rf (some s13.2.1)), some (.int p20), none, none, none, none] []) hw (fun  s358 hw => ?_) (fun j359 hj359 hw => ?_)
            · refine z_goto hX dL_law_555 (tgt := 2124) rfl ?_
              exact hj39  _ hw
            · refine z_if_ne hX dL_law_540 (tgt := 555) rfl (fun c360 => ?_) (fun c360 => ?_)
              · have hw := hw.1 c360
                refine z_sub (ls' := [some (va_rf (some b)), some (va_rf (some σ.2.1)), some (va_rf (some s5.2.1)), some (va_rf (some s13.2.1)), some (.int p20), none, none, none, none]) (zsS (zsS (zsS (zsS (zsS (zsN (zsN (zsN (zsN (zs0)))))))))) ?_
                exact hj359  _ hw
              · have hw := hw.2 c360
                refine z_aload_n hX dL_law_543 rfl (i := 3) rfl ?_
                refine z_iconst hX (v := (0 : Int32)) dL_law_544 (by decide) ?_
                obtain ⟨a361, n362, f363, r364, m365, i366, hw⟩ := hw
                refine z_lald hX dL_law_545 r364 m365 i366 ?_
                revert hw
                generalize f363 (Int32.toNatClampNeg (0 : Int32)) = v367
                intro hw
                refine z_iload hX dL_law_546 (i := 6) rfl ?_
                refine z_i2l hX dL_law_548 ?_
                refine z_lcmp hX dL_law_549 ?_
                refine z_if_eq hX dL_law_550 (tgt := 555) rfl (fun c369 => ?_) (fun c369 => ?_)
                · have hw := hw.1 c369
                  refine z_sub (ls' := [some (va_rf (some b)), some (va_rf (some σ.2.1)), some (va_rf (some s5.2.1)), some (va_rf (some s13.2.1)), some (.int p20), none, none, none, none]) (zsS (zsS (zsS (zsS (zsS (zsN (zsN (zsN (zsN (zs0)))))))))) ?_
                  exact hj359  _ hw
                · have hw := hw.2 c369
                  refine z_iconst hX (v := (0 : Int32)) dL_law_553 (by decide) ?_
                  exact z_ireturn hX hR dL_law_554 (zn_z hw.1) hw.2
          · have hw := hw.2 c357
            refine z_iconst hX (v := (0 : Int32)) dL_law_536 (by decide) ?_
            exact z_ireturn hX hR dL_law_537 (zn_z hw.1) hw.2
        | 6, _, c42 =>
          have c42 : (v36 &&& (63 : Int32)) = (6) := c42
          refine z_tableIn hX dL_law_40 (by rw [c42]; decide) (by rw [c42]; decide) (off := 518) (by rw [c42]; rfl) (tgt := 558) rfl ?_
          have hw := hw.2.2.2.2.2.2.2.1 c42
          refine z_aload_n hX dL_law_558 rfl (i := 1) rfl ?_
          refine z_aload_n hX dL_law_559 rfl (i := 0) rfl ?_
          refine z_iload hX dL_law_560 (i := 4) rfl ?_
          refine z_iconst hX (v := (1 : Int32)) dL_law_562 (by decide) ?_
          refine z_iadd hX dL_law_563 ?_
          obtain ⟨a370, n371, f372, r373, m374, i375, hw⟩ := hw
          refine z_iald hX dL_law_564 r373 m374 i375 ?_
          revert hw
          generalize f372 (Int32.toNatClampNeg (p20 + (1 : Int32))) = v376
          intro hw
          refine z_aload_n hX dL_law_565 rfl (i := 3) rfl ?_
          refine z_invSX hX hd dL_law_566 (hC 4 _ zm4 _ _ _ _ hw) q1670 q1671 zh0 q1672 q129 zn4 rfl (Nat.le_of_ble_eq_true rfl) (st := []) rfl (zcs8 (Nat.le_of_ble_eq_true rfl)) rfl (zkI (fun v378 s379 hw => ?_)) (zout hX hR hTb)
          refine z_istore hX dL_law_569 (i := 5) (Nat.le_of_ble_eq_true rfl) rfl (ls2 := [some (va_rf (some b)), some (va_rf (some σ.2.1)), some (va_rf (some s5.2.1)), some (va_rf (some s13.2.1)), some (.int p20), some (.int v378), none, none, none]) rfl ?_
          refine z_aload_n hX dL_law_571 rfl (i := 2) rfl ?_
          refine z_aload_n hX dL_law_572 rfl (i := 0) rfl ?_
          refine z_iload hX dL_law_573 (i := 4) rfl ?_
          refine z_iconst hX (v := (1 : Int32)) dL_law_575 (by decide) ?_
          refine z_iadd hX dL_law_576 ?_
          obtain ⟨a381, n382, f383, r384, m385, i386, hw⟩ := hw
          refine z_iald hX dL_law_577 r384 m385 i386 ?_
          revert hw
          generalize f383 (Int32.toNatClampNeg (p20 + (1 : Int32))) = v387
          intro hw
          obtain ⟨a392, f393, r394, m395, hw⟩ := hw
          refine z_invV hX hd r394 (ci := 4) rfl rfl m395 dL_law_578 (hC 170 _ zm170 _ _ _ _ hw) q2647 q2648 q2649 zh7 q2650 q136 zn170 rfl (Nat.le_of_ble_eq_true rfl) (st := []) rfl (zcs8 (Nat.le_of_ble_eq_true rfl)) rfl (zkI (fun v389 s390 hw => ?_)) (zout hX hR hTb)
          refine z_istore hX dL_law_581 (i := 6) (Nat.le_of_ble_eq_true rfl) rfl (ls2 := [some (va_rf (some b)), some (va_rf (some σ.2.1)), some (va_rf (some s5.2.1)), some (va_rf (some s13.2.1)), some (.int p20), some (.int v378), some (.int v389), none, none]) rfl ?_
          refine z_aload_n hX dL_law_583 rfl (i := 2) rfl ?_
          obtain ⟨a399, f400, r401, m402, hw⟩ := hw
          refine z_invV hX hd r401 (ci := 4) rfl rfl m402 dL_law_584 (hC 156 _ zm156 _ _ _ _ hw) q2593 q2594 q2595 zh7 q2596 q136 zn156 rfl (Nat.le_of_ble_eq_true rfl) (st := []) rfl (zcs8 (Nat.le_of_ble_eq_true rfl)) rfl (zkI (fun v396 s397 hw => ?_)) (zout hX hR hTb)
          refine z_iload hX dL_law_587 (i := 5) rfl ?_
          refine z_icmp_eq hX dL_law_589 (tgt := 594) rfl (fun c403 => ?_) (fun c403 => ?_)
          · have hw := hw.1 c403
            refine z_iload hX dL_law_594 (i := 5) rfl ?_
            refine zJ_w (P := fun (j : zS → Prop) => ∀  (s404 : zS), j  s404 → zW X s404 611 [some (va_rf (some b)), some (va_rf (some σ.2.1)), some (va_rf (some s5.2.1)), some (va_rf (some s13.2.1)), some (.int p20), none, none, none, none] []) hw (fun  s404 hw => ?_) (fun j405 hj405 hw => ?_)
            · refine z_goto hX dL_law_611 (tgt := 2124) rfl ?_
              exact hj39  _ hw
            · refine z_if_ne hX dL_law_596 (tgt := 611) rfl (fun c406 => ?_) (fun c406 => ?_)
              · have hw := hw.1 c406
                refine z_sub (ls' := [some (va_rf (some b)), some (va_rf (some σ.2.1)), some (va_rf (some s5.2.1)), some (va_rf (some s13.2.1)), some (.int p20), none, none, none, none]) (zsS (zsS (zsS (zsS (zsS (zsN (zsN (zsN (zsN (zs0)))))))))) ?_
                exact hj405  _ hw
              · have hw := hw.2 c406
                refine z_aload_n hX dL_law_599 rfl (i := 3) rfl ?_
                refine z_iconst hX (v := (0 : Int32)) dL_law_600 (by decide) ?_
                obtain ⟨a407, n408, f409, r410, m411, i412, hw⟩ := hw
                refine z_lald hX dL_law_601 r410 m411 i412 ?_
                revert hw
                generalize f409 (Int32.toNatClampNeg (0 : Int32)) = v413
                intro hw
                refine z_iload hX dL_law_602 (i := 6) rfl ?_
                refine z_i2l hX dL_law_604 ?_
                refine z_lcmp hX dL_law_605 ?_
                refine z_if_eq hX dL_law_606 (tgt := 611) rfl (fun c415 => ?_) (fun c415 => ?_)
                · have hw := hw.1 c415
                  refine z_sub (ls' := [some (va_rf (some b)), some (va_rf (some σ.2.1)), some (va_rf (some s5.2.1)), some (va_rf (some s13.2.1)), some (.int p20), none, none, none, none]) (zsS (zsS (zsS (zsS (zsS (zsN (zsN (zsN (zsN (zs0)))))))))) ?_
                  exact hj405  _ hw
                · have hw := hw.2 c415
                  refine z_iconst hX (v := (0 : Int32)) dL_law_609 (by decide) ?_
                  exact z_ireturn hX hR dL_law_610 (zn_z hw.1) hw.2
          · have hw := hw.2 c403
            refine z_iconst hX (v := (0 : Int32)) dL_law_592 (by decide) ?_
            exact z_ireturn hX hR dL_law_593 (zn_z hw.1) hw.2
        | 7, _, c42 =>
          have c42 : (v36 &&& (63 : Int32)) = (7) := c42
          refine z_tableIn hX dL_law_40 (by rw [c42]; decide) (by rw [c42]; decide) (off := 574) (by rw [c42]; rfl) (tgt := 614) rfl ?_
          have hw := hw.2.2.2.2.2.2.2.2.1 c42
          refine z_aload_n hX dL_law_614 rfl (i := 1) rfl ?_
          refine z_aload_n hX dL_law_615 rfl (i := 0) rfl ?_
          refine z_iload hX dL_law_616 (i := 4) rfl ?_
          refine z_iconst hX (v := (1 : Int32)) dL_law_618 (by decide) ?_
          refine z_iadd hX dL_law_619 ?_
          obtain ⟨a416, n417, f418, r419, m420, i421, hw⟩ := hw
          refine z_iald hX dL_law_620 r419 m420 i421 ?_
          revert hw
          generalize f418 (Int32.toNatClampNeg (p20 + (1 : Int32))) = v422
          intro hw
          refine z_aload_n hX dL_law_621 rfl (i := 3) rfl ?_
          refine z_invSX hX hd dL_law_622 (hC 5 _ zm5 _ _ _ _ hw) q1681 q1682 zh0 q1683 q129 zn5 rfl (Nat.le_of_ble_eq_true rfl) (st := []) rfl (zcs8 (Nat.le_of_ble_eq_true rfl)) rfl (zkI (fun v424 s425 hw => ?_)) (zout hX hR hTb)
          refine z_istore hX dL_law_625 (i := 5) (Nat.le_of_ble_eq_true rfl) rfl (ls2 := [some (va_rf (some b)), some (va_rf (some σ.2.1)), some (va_rf (some s5.2.1)), some (va_rf (some s13.2.1)), some (.int p20), some (.int v424), none, none, none]) rfl ?_
          refine z_aload_n hX dL_law_627 rfl (i := 2) rfl ?_
          refine z_aload_n hX dL_law_628 rfl (i := 0) rfl ?_
          refine z_iload hX dL_law_629 (i := 4) rfl ?_
          refine z_iconst hX (v := (1 : Int32)) dL_law_631 (by decide) ?_
          refine z_iadd hX dL_law_632 ?_
          obtain ⟨a427, n428, f429, r430, m431, i432, hw⟩ := hw
          refine z_iald hX dL_law_633 r430 m431 i432 ?_
          revert hw
          generalize f429 (Int32.toNatClampNeg (p20 + (1 : Int32))) = v433
          intro hw
          obtain ⟨a438, f439, r440, m441, hw⟩ := hw
          refine z_invV hX hd r440 (ci := 4) rfl rfl m441 dL_law_634 (hC 175 _ zm175 _ _ _ _ hw) q2667 q2668 q2669 zh7 q2670 q136 zn175 rfl (Nat.le_of_ble_eq_true rfl) (st := []) rfl (zcs8 (Nat.le_of_ble_eq_true rfl)) rfl (zkI (fun v435 s436 hw => ?_)) (zout hX hR hTb)
          refine z_istore hX dL_law_637 (i := 6) (Nat.le_of_ble_eq_true rfl) rfl (ls2 := [some (va_rf (some b)), some (va_rf (some σ.2.1)), some (va_rf (some s5.2.1)), some (va_rf (some s13.2.1)), some (.int p20), some (.int v424), some (.int v435), none, none]) rfl ?_
          refine z_aload_n hX dL_law_639 rfl (i := 2) rfl ?_
          obtain ⟨a445, f446, r447, m448, hw⟩ := hw
          refine z_invV hX hd r447 (ci := 4) rfl rfl m448 dL_law_640 (hC 156 _ zm156 _ _ _ _ hw) q2593 q2594 q2595 zh7 q2596 q136 zn156 rfl (Nat.le_of_ble_eq_true rfl) (st := []) rfl (zcs8 (Nat.le_of_ble_eq_true rfl)) rfl (zkI (fun v442 s443 hw => ?_)) (zout hX hR hTb)
          refine z_iload hX dL_law_643 (i := 5) rfl ?_
          refine z_icmp_eq hX dL_law_645 (tgt := 650) rfl (fun c449 => ?_) (fun c449 => ?_)
          · have hw := hw.1 c449
            refine z_iload hX dL_law_650 (i := 5) rfl ?_
            refine zJ_w (P := fun (j : zS → Prop) => ∀  (s450 : zS), j  s450 → zW X s450 667 [some (va_rf (some b)), some (va_rf (some σ.2.1)), some (va_rf (some s5.2.1)), some (va_rf (some s13.2.1)), some (.int p20), none, none, none, none] []) hw (fun  s450 hw => ?_) (fun j451 hj451 hw => ?_)
            · refine z_goto hX dL_law_667 (tgt := 2124) rfl ?_
              exact hj39  _ hw
            · refine z_if_ne hX dL_law_652 (tgt := 667) rfl (fun c452 => ?_) (fun c452 => ?_)
              · have hw := hw.1 c452
                refine z_sub (ls' := [some (va_rf (some b)), some (va_rf (some σ.2.1)), some (va_rf (some s5.2.1)), some (va_rf (some s13.2.1)), some (.int p20), none, none, none, none]) (zsS (zsS (zsS (zsS (zsS (zsN (zsN (zsN (zsN (zs0)))))))))) ?_
                exact hj451  _ hw
              · have hw := hw.2 c452
                refine z_aload_n hX dL_law_655 rfl (i := 3) rfl ?_
                refine z_iconst hX (v := (0 : Int32)) dL_law_656 (by decide) ?_
                obtain ⟨a453, n454, f455, r456, m457, i458, hw⟩ := hw
                refine z_lald hX dL_law_657 r456 m457 i458 ?_
                revert hw
                generalize f455 (Int32.toNatClampNeg (0 : Int32)) = v459
                intro hw
                refine z_iload hX dL_law_658 (i := 6) rfl ?_
                refine z_i2l hX dL_law_660 ?_
                refine z_lcmp hX dL_law_661 ?_
                refine z_if_eq hX dL_law_662 (tgt := 667) rfl (fun c461 => ?_) (fun c461 => ?_)
                · have hw := hw.1 c461
                  refine z_sub (ls' := [some (va_rf (some b)), some (va_rf (some σ.2.1)), some (va_rf (some s5.2.1)), some (va_rf (some s13.2.1)), some (.int p20), none, none, none, none]) (zsS (zsS (zsS (zsS (zsS (zsN (zsN (zsN (zsN (zs0)))))))))) ?_
                  exact hj451  _ hw
                · have hw := hw.2 c461
                  refine z_iconst hX (v := (0 : Int32)) dL_law_665 (by decide) ?_
                  exact z_ireturn hX hR dL_law_666 (zn_z hw.1) hw.2
          · have hw := hw.2 c449
            refine z_iconst hX (v := (0 : Int32)) dL_law_648 (by decide) ?_
            exact z_ireturn hX hR dL_law_649 (zn_z hw.1) hw.2
        | 8, _, c42 =>
          have c42 : (v36 &&& (63 : Int32)) = (8) := c42
          refine z_tableIn hX dL_law_40 (by rw [c42]; decide) (by rw [c42]; decide) (off := 630) (by rw [c42]; rfl) (tgt := 670) rfl ?_
          have hw := hw.2.2.2.2.2.2.2.2.2.1 c42
          refine z_aload_n hX dL_law_670 rfl (i := 1) rfl ?_
          refine z_aload_n hX dL_law_671 rfl (i := 0) rfl ?_
          refine z_iload hX dL_law_672 (i := 4) rfl ?_
          refine z_iconst hX (v := (1 : Int32)) dL_law_674 (by decide) ?_
          refine z_iadd hX dL_law_675 ?_
          obtain ⟨a462, n463, f464, r465, m466, i467, hw⟩ := hw
          refine z_iald hX dL_law_676 r465 m466 i467 ?_
          revert hw
          generalize f464 (Int32.toNatClampNeg (p20 + (1 : Int32))) = v468
          intro hw
          refine z_aload_n hX dL_law_677 rfl (i := 3) rfl ?_
          refine z_invSX hX hd dL_law_678 (hC 6 _ zm6 _ _ _ _ hw) q1688 q1689 zh0 q1690 q129 zn6 rfl (Nat.le_of_ble_eq_true rfl) (st := []) rfl (zcs8 (Nat.le_of_ble_eq_true rfl)) rfl (zkI (fun v470 s471 hw => ?_)) (zout hX hR hTb)
          refine z_istore hX dL_law_681 (i := 5) (Nat.le_of_ble_eq_true rfl) rfl (ls2 := [some (va_rf (some b)), some (va_rf (some σ.2.1)), some (va_rf (some s5.2.1)), some (va_rf (some s13.2.1)), some (.int p20), some (.int v470), none, none, none]) rfl ?_
          refine z_aload_n hX dL_law_683 rfl (i := 2) rfl ?_
          refine z_aload_n hX dL_law_684 rfl (i := 0) rfl ?_
          refine z_iload hX dL_law_685 (i := 4) rfl ?_
          refine z_iconst hX (v := (1 : Int32)) dL_law_687 (by decide) ?_
          refine z_iadd hX dL_law_688 ?_
          obtain ⟨a473, n474, f475, r476, m477, i478, hw⟩ := hw
          refine z_iald hX dL_law_689 r476 m477 i478 ?_
          revert hw
          generalize f475 (Int32.toNatClampNeg (p20 + (1 : Int32))) = v479
          intro hw
          obtain ⟨a484, f485, r486, m487, hw⟩ := hw
          refine z_invV hX hd r486 (ci := 4) rfl rfl m487 dL_law_690 (hC 176 _ zm176 _ _ _ _ hw) q2671 q2672 q2673 zh7 q2674 q136 zn176 rfl (Nat.le_of_ble_eq_true rfl) (st := []) rfl (zcs8 (Nat.le_of_ble_eq_true rfl)) rfl (zkI (fun v481 s482 hw => ?_)) (zout hX hR hTb)
          refine z_istore hX dL_law_693 (i := 6) (Nat.le_of_ble_eq_true rfl) rfl (ls2 := [some (va_rf (some b)), some (va_rf (some σ.2.1)), some (va_rf (some s5.2.1)), some (va_rf (some s13.2.1)), some (.int p20), some (.int v470), some (.int v481), none, none]) rfl ?_
          refine z_aload_n hX dL_law_695 rfl (i := 2) rfl ?_
          obtain ⟨a491, f492, r493, m494, hw⟩ := hw
          refine z_invV hX hd r493 (ci := 4) rfl rfl m494 dL_law_696 (hC 156 _ zm156 _ _ _ _ hw) q2593 q2594 q2595 zh7 q2596 q136 zn156 rfl (Nat.le_of_ble_eq_true rfl) (st := []) rfl (zcs8 (Nat.le_of_ble_eq_true rfl)) rfl (zkI (fun v488 s489 hw => ?_)) (zout hX hR hTb)
          refine z_iload hX dL_law_699 (i := 5) rfl ?_
          refine z_icmp_eq hX dL_law_701 (tgt := 706) rfl (fun c495 => ?_) (fun c495 => ?_)
          · have hw := hw.1 c495
            refine z_iload hX dL_law_706 (i := 5) rfl ?_
            refine zJ_w (P := fun (j : zS → Prop) => ∀  (s496 : zS), j  s496 → zW X s496 723 [some (va_rf (some b)), some (va_rf (some σ.2.1)), some (va_rf (some s5.2.1)), some (va_rf (some s13.2.1)), some (.int p20), none, none, none, none] []) hw (fun  s496 hw => ?_) (fun j497 hj497 hw => ?_)
            · refine z_goto hX dL_law_723 (tgt := 2124) rfl ?_
              exact hj39  _ hw
            · refine z_if_ne hX dL_law_708 (tgt := 723) rfl (fun c498 => ?_) (fun c498 => ?_)
              · have hw := hw.1 c498
                refine z_sub (ls' := [some (va_rf (some b)), some (va_rf (some σ.2.1)), some (va_rf (some s5.2.1)), some (va_rf (some s13.2.1)), some (.int p20), none, none, none, none]) (zsS (zsS (zsS (zsS (zsS (zsN (zsN (zsN (zsN (zs0)))))))))) ?_
                exact hj497  _ hw
              · have hw := hw.2 c498
                refine z_aload_n hX dL_law_711 rfl (i := 3) rfl ?_
                refine z_iconst hX (v := (0 : Int32)) dL_law_712 (by decide) ?_
                obtain ⟨a499, n500, f501, r502, m503, i504, hw⟩ := hw
                refine z_lald hX dL_law_713 r502 m503 i504 ?_
                revert hw
                generalize f501 (Int32.toNatClampNeg (0 : Int32)) = v505
                intro hw
                refine z_iload hX dL_law_714 (i := 6) rfl ?_
                refine z_i2l hX dL_law_716 ?_
                refine z_lcmp hX dL_law_717 ?_
                refine z_if_eq hX dL_law_718 (tgt := 723) rfl (fun c507 => ?_) (fun c507 => ?_)
                · have hw := hw.1 c507
                  refine z_sub (ls' := [some (va_rf (some b)), some (va_rf (some σ.2.1)), some (va_rf (some s5.2.1)), some (va_rf (some s13.2.1)), some (.int p20), none, none, none, none]) (zsS (zsS (zsS (zsS (zsS (zsN (zsN (zsN (zsN (zs0)))))))))) ?_
                  exact hj497  _ hw
                · have hw := hw.2 c507
                  refine z_iconst hX (v := (0 : Int32)) dL_law_721 (by decide) ?_
                  exact z_ireturn hX hR dL_law_722 (zn_z hw.1) hw.2
          · have hw := hw.2 c495
            refine z_iconst hX (v := (0 : Int32)) dL_law_704 (by decide) ?_
            exact z_ireturn hX hR dL_law_705 (zn_z hw.1) hw.2
        | 9, _, c42 =>
          have c42 : (v36 &&& (63 : Int32)) = (9) := c42
          refine z_tableIn hX dL_law_40 (by rw [c42]; decide) (by rw [c42]; decide) (off := 686) (by rw [c42]; rfl) (tgt := 726) rfl ?_
          have hw := hw.2.2.2.2.2.2.2.2.2.2.1 c42
          refine z_aload_n hX dL_law_726 rfl (i := 1) rfl ?_
          refine z_aload_n hX dL_law_727 rfl (i := 0) rfl ?_
          refine z_iload hX dL_law_728 (i := 4) rfl ?_
          refine z_iconst hX (v := (1 : Int32)) dL_law_730 (by decide) ?_
          refine z_iadd hX dL_law_731 ?_
          obtain ⟨a508, n509, f510, r511, m512, i513, hw⟩ := hw
          refine z_iald hX dL_law_732 r511 m512 i513 ?_
          revert hw
          generalize f510 (Int32.toNatClampNeg (p20 + (1 : Int32))) = v514
          intro hw
          obtain ⟨a519, f520, r521, m522, hw⟩ := hw
          refine z_invV hX hd r521 (ci := 0) rfl rfl m522 dL_law_733 (hC 26 _ zm26 _ _ _ _ hw) q343 q344 q345 zh1 q346 q130 zn26 rfl (Nat.le_of_ble_eq_true rfl) (st := []) rfl (zcs8 (Nat.le_of_ble_eq_true rfl)) rfl (zkI (fun v516 s517 hw => ?_)) (zout hX hR hTb)
          refine z_aload_n hX dL_law_736 rfl (i := 2) rfl ?_
          refine z_aload_n hX dL_law_737 rfl (i := 0) rfl ?_
          refine z_iload hX dL_law_738 (i := 4) rfl ?_
          refine z_iconst hX (v := (1 : Int32)) dL_law_740 (by decide) ?_
          refine z_iadd hX dL_law_741 ?_
          obtain ⟨a523, n524, f525, r526, m527, i528, hw⟩ := hw
          refine z_iald hX dL_law_742 r526 m527 i528 ?_
          revert hw
          generalize f525 (Int32.toNatClampNeg (p20 + (1 : Int32))) = v529
          intro hw
          obtain ⟨a534, f535, r536, m537, hw⟩ := hw
          refine z_invV hX hd r536 (ci := 4) rfl rfl m537 dL_law_743 (hC 182 _ zm182 _ _ _ _ hw) q2695 q2696 q2697 zh7 q2698 q136 zn182 rfl (Nat.le_of_ble_eq_true rfl) (st := [.int v516]) rfl (zcs8 (Nat.le_of_ble_eq_true rfl)) rfl (zkI (fun v531 s532 hw => ?_)) (zout hX hR hTb)
          refine z_icmp_eq hX dL_law_746 (tgt := 2124) rfl (fun c538 => ?_) (fun c538 => ?_)
          · have hw := hw.1 c538
            exact hj39  _ hw
          · have hw := hw.2 c538
            refine z_iconst hX (v := (0 : Int32)) dL_law_749 (by decide) ?_
            exact z_ireturn hX hR dL_law_750 (zn_z hw.1) hw.2
        | 10, _, c42 =>
          have c42 : (v36 &&& (63 : Int32)) = (10) := c42
          refine z_tableIn hX dL_law_40 (by rw [c42]; decide) (by rw [c42]; decide) (off := 711) (by rw [c42]; rfl) (tgt := 751) rfl ?_
          have hw := hw.2.2.2.2.2.2.2.2.2.2.2.1 c42
          refine z_aload_n hX dL_law_751 rfl (i := 1) rfl ?_
          refine z_aload_n hX dL_law_752 rfl (i := 0) rfl ?_
          refine z_iload hX dL_law_753 (i := 4) rfl ?_
          refine z_iconst hX (v := (1 : Int32)) dL_law_755 (by decide) ?_
          refine z_iadd hX dL_law_756 ?_
          obtain ⟨a539, n540, f541, r542, m543, i544, hw⟩ := hw
          refine z_iald hX dL_law_757 r542 m543 i544 ?_
          revert hw
          generalize f541 (Int32.toNatClampNeg (p20 + (1 : Int32))) = v545
          intro hw
          obtain ⟨a550, f551, r552, m553, hw⟩ := hw
          refine z_invV hX hd r552 (ci := 0) rfl rfl m553 dL_law_758 (hC 28 _ zm28 _ _ _ _ hw) q448 q449 q450 zh1 q451 q130 zn28 rfl (Nat.le_of_ble_eq_true rfl) (st := []) rfl (zcs8 (Nat.le_of_ble_eq_true rfl)) rfl (zkI (fun v547 s548 hw => ?_)) (zout hX hR hTb)
          refine z_aload_n hX dL_law_761 rfl (i := 2) rfl ?_
          refine z_aload_n hX dL_law_762 rfl (i := 0) rfl ?_
          refine z_iload hX dL_law_763 (i := 4) rfl ?_
          refine z_iconst hX (v := (1 : Int32)) dL_law_765 (by decide) ?_
          refine z_iadd hX dL_law_766 ?_
          obtain ⟨a554, n555, f556, r557, m558, i559, hw⟩ := hw
          refine z_iald hX dL_law_767 r557 m558 i559 ?_
          revert hw
          generalize f556 (Int32.toNatClampNeg (p20 + (1 : Int32))) = v560
          intro hw
          obtain ⟨a565, f566, r567, m568, hw⟩ := hw
          refine z_invV hX hd r567 (ci := 4) rfl rfl m568 dL_law_768 (hC 183 _ zm183 _ _ _ _ hw) q2699 q2700 q2701 zh7 q2702 q136 zn183 rfl (Nat.le_of_ble_eq_true rfl) (st := [.int v547]) rfl (zcs8 (Nat.le_of_ble_eq_true rfl)) rfl (zkI (fun v562 s563 hw => ?_)) (zout hX hR hTb)
          refine z_icmp_eq hX dL_law_771 (tgt := 2124) rfl (fun c569 => ?_) (fun c569 => ?_)
          · have hw := hw.1 c569
            exact hj39  _ hw
          · have hw := hw.2 c569
            refine z_iconst hX (v := (0 : Int32)) dL_law_774 (by decide) ?_
            exact z_ireturn hX hR dL_law_775 (zn_z hw.1) hw.2
        | 11, _, c42 =>
          have c42 : (v36 &&& (63 : Int32)) = (11) := c42
          refine z_tableIn hX dL_law_40 (by rw [c42]; decide) (by rw [c42]; decide) (off := 736) (by rw [c42]; rfl) (tgt := 776) rfl ?_
          have hw := hw.2.2.2.2.2.2.2.2.2.2.2.2.1 c42
          refine z_aload_n hX dL_law_776 rfl (i := 1) rfl ?_
          obtain ⟨a573, f574, r575, m576, hw⟩ := hw
          refine z_invV hX hd r575 (ci := 0) rfl rfl m576 dL_law_777 (hC 29 _ zm29 _ _ _ _ hw) q452 q453 q454 zh1 q455 q130 zn29 rfl (Nat.le_of_ble_eq_true rfl) (st := []) rfl (zcs8 (Nat.le_of_ble_eq_true rfl)) rfl (zkI (fun v570 s571 hw => ?_)) (zout hX hR hTb)
          refine z_aload_n hX dL_law_780 rfl (i := 2) rfl ?_
          obtain ⟨a580, f581, r582, m583, hw⟩ := hw
          refine z_invV hX hd r582 (ci := 4) rfl rfl m583 dL_law_781 (hC 185 _ zm185 _ _ _ _ hw) q2707 q2708 q2709 zh7 q2710 q136 zn185 rfl (Nat.le_of_ble_eq_true rfl) (st := [.int v570]) rfl (zcs8 (Nat.le_of_ble_eq_true rfl)) rfl (zkI (fun v577 s578 hw => ?_)) (zout hX hR hTb)
          refine z_icmp_eq hX dL_law_784 (tgt := 2124) rfl (fun c584 => ?_) (fun c584 => ?_)
          · have hw := hw.1 c584
            exact hj39  _ hw
          · have hw := hw.2 c584
            refine z_iconst hX (v := (0 : Int32)) dL_law_787 (by decide) ?_
            exact z_ireturn hX hR dL_law_788 (zn_z hw.1) hw.2
        | 12, _, c42 =>
          have c42 : (v36 &&& (63 : Int32)) = (12) := c42
          refine z_tableIn hX dL_law_40 (by rw [c42]; decide) (by rw [c42]; decide) (off := 749) (by rw [c42]; rfl) (tgt := 789) rfl ?_
          have hw := hw.2.2.2.2.2.2.2.2.2.2.2.2.2.1 c42
          refine z_aload_n hX dL_law_789 rfl (i := 1) rfl ?_
          refine z_aload_n hX dL_law_790 rfl (i := 0) rfl ?_
          refine z_iload hX dL_law_791 (i := 4) rfl ?_
          refine z_iconst hX (v := (1 : Int32)) dL_law_793 (by decide) ?_
          refine z_iadd hX dL_law_794 ?_
          obtain ⟨a585, n586, f587, r588, m589, i590, hw⟩ := hw
          refine z_iald hX dL_law_795 r588 m589 i590 ?_
          revert hw
          generalize f587 (Int32.toNatClampNeg (p20 + (1 : Int32))) = v591
          intro hw
          refine zJ_w (P := fun (j : Int32 → zS → Prop) => ∀ (p593 : Int32) (s594 : zS), j p593 s594 → zW X s594 804 [some (va_rf (some b)), some (va_rf (some σ.2.1)), some (va_rf (some s5.2.1)), some (va_rf (some s13.2.1)), some (.int p20), none, none, none, none] [.int p593, va_rf (some σ.2.1)]) hw (fun p593 s594 hw => ?_) (fun j595 hj595 hw => ?_)
          · refine z_aload_n hX dL_law_804 rfl (i := 0) rfl ?_
            refine z_iload hX dL_law_805 (i := 4) rfl ?_
            refine z_iconst hX (v := (2 : Int32)) dL_law_807 (by decide) ?_
            refine z_iadd hX dL_law_808 ?_
            obtain ⟨a596, n597, f598, r599, m600, i601, hw⟩ := hw
            refine z_iald hX dL_law_809 r599 m600 i601 ?_
            revert hw
            generalize f598 (Int32.toNatClampNeg (p20 + (2 : Int32))) = v602
            intro hw
            refine z_aload_n hX dL_law_810 rfl (i := 3) rfl ?_
            refine z_invSX hX hd dL_law_811 (hC 7 _ zm7 _ _ _ _ hw) q2012 q2013 zh0 q2014 q129 zn7 rfl (Nat.le_of_ble_eq_true rfl) (st := []) rfl (zcs8 (Nat.le_of_ble_eq_true rfl)) rfl (zkI (fun v604 s605 hw => ?_)) (zout hX hR hTb)
            refine z_istore hX dL_law_814 (i := 5) (Nat.le_of_ble_eq_true rfl) rfl (ls2 := [some (va_rf (some b)), some (va_rf (some σ.2.1)), some (va_rf (some s5.2.1)), some (va_rf (some s13.2.1)), some (.int p20), some (.int v604), none, none, none]) rfl ?_
            refine z_aload_n hX dL_law_816 rfl (i := 2) rfl ?_
            refine z_aload_n hX dL_law_817 rfl (i := 0) rfl ?_
            refine z_iload hX dL_law_818 (i := 4) rfl ?_
            refine z_iconst hX (v := (1 : Int32)) dL_law_820 (by decide) ?_
            refine z_iadd hX dL_law_821 ?_
            obtain ⟨a607, n608, f609, r610, m611, i612, hw⟩ := hw
            refine z_iald hX dL_law_822 r610 m611 i612 ?_
            revert hw
            generalize f609 (Int32.toNatClampNeg (p20 + (1 : Int32))) = v613
            intro hw
            refine zJ_w (P := fun (j : Int32 → zS → Prop) => ∀ (p615 : Int32) (s616 : zS), j p615 s616 → zW X s616 831 [some (va_rf (some b)), some (va_rf (some σ.2.1)), some (va_rf (some s5.2.1)), some (va_rf (some s13.2.1)), some (.int p20), some (.int v604), none, none, none] [.int p615, va_rf (some s5.2.1)]) hw (fun p615 s616 hw => ?_) (fun j617 hj617 hw => ?_)
            · refine z_aload_n hX dL_law_831 rfl (i := 0) rfl ?_
              refine z_iload hX dL_law_832 (i := 4) rfl ?_
              refine z_iconst hX (v := (2 : Int32)) dL_law_834 (by decide) ?_
              refine z_iadd hX dL_law_835 ?_
              obtain ⟨a618, n619, f620, r621, m622, i623, hw⟩ := hw
              refine z_iald hX dL_law_836 r621 m622 i623 ?_
              revert hw
              generalize f620 (Int32.toNatClampNeg (p20 + (2 : Int32))) = v624
              intro hw
              obtain ⟨a629, f630, r631, m632, hw⟩ := hw
              refine z_invV hX hd r631 (ci := 4) rfl rfl m632 dL_law_837 (hC 187 _ zm187 _ _ _ _ hw) q2715 q2716 q2717 zh7 q2718 q136 zn187 rfl (Nat.le_of_ble_eq_true rfl) (st := []) rfl (zcs8 (Nat.le_of_ble_eq_true rfl)) rfl (zkI (fun v626 s627 hw => ?_)) (zout hX hR hTb)
              refine z_istore hX dL_law_840 (i := 6) (Nat.le_of_ble_eq_true rfl) rfl (ls2 := [some (va_rf (some b)), some (va_rf (some σ.2.1)), some (va_rf (some s5.2.1)), some (va_rf (some s13.2.1)), some (.int p20), some (.int v604), some (.int v626), none, none]) rfl ?_
              refine z_aload_n hX dL_law_842 rfl (i := 2) rfl ?_
              obtain ⟨a636, f637, r638, m639, hw⟩ := hw
              refine z_invV hX hd r638 (ci := 4) rfl rfl m639 dL_law_843 (hC 156 _ zm156 _ _ _ _ hw) q2593 q2594 q2595 zh7 q2596 q136 zn156 rfl (Nat.le_of_ble_eq_true rfl) (st := []) rfl (zcs8 (Nat.le_of_ble_eq_true rfl)) rfl (zkI (fun v633 s634 hw => ?_)) (zout hX hR hTb)
              refine z_iload hX dL_law_846 (i := 5) rfl ?_
              refine z_icmp_eq hX dL_law_848 (tgt := 853) rfl (fun c640 => ?_) (fun c640 => ?_)
              · have hw := hw.1 c640
                refine z_iload hX dL_law_853 (i := 5) rfl ?_
                refine zJ_w (P := fun (j : zS → Prop) => ∀  (s641 : zS), j  s641 → zW X s641 870 [some (va_rf (some b)), some (va_rf (some σ.2.1)), some (va_rf (some s5.2.1)), some (va_rf (some s13.2.1)), some (.int p20), none, none, none, none] []) hw (fun  s641 hw => ?_) (fun j642 hj642 hw => ?_)
                · refine z_goto hX dL_law_870 (tgt := 2124) rfl ?_
                  exact hj39  _ hw
                · refine z_if_ne hX dL_law_855 (tgt := 870) rfl (fun c643 => ?_) (fun c643 => ?_)
                  · have hw := hw.1 c643
                    refine z_sub (ls' := [some (va_rf (some b)), some (va_rf (some σ.2.1)), some (va_rf (some s5.2.1)), some (va_rf (some s13.2.1)), some (.int p20), none, none, none, none]) (zsS (zsS (zsS (zsS (zsS (zsN (zsN (zsN (zsN (zs0)))))))))) ?_
                    exact hj642  _ hw
                  · have hw := hw.2 c643
                    refine z_aload_n hX dL_law_858 rfl (i := 3) rfl ?_
                    refine z_iconst hX (v := (0 : Int32)) dL_law_859 (by decide) ?_
                    obtain ⟨a644, n645, f646, r647, m648, i649, hw⟩ := hw
                    refine z_lald hX dL_law_860 r647 m648 i649 ?_
                    revert hw
                    generalize f646 (Int32.toNatClampNeg (0 : Int32)) = v650
                    intro hw
                    refine z_iload hX dL_law_861 (i := 6) rfl ?_
                    refine z_i2l hX dL_law_863 ?_
                    refine z_lcmp hX dL_law_864 ?_
                    refine z_if_eq hX dL_law_865 (tgt := 870) rfl (fun c652 => ?_) (fun c652 => ?_)
                    · have hw := hw.1 c652
                      refine z_sub (ls' := [some (va_rf (some b)), some (va_rf (some σ.2.1)), some (va_rf (some s5.2.1)), some (va_rf (some s13.2.1)), some (.int p20), none, none, none, none]) (zsS (zsS (zsS (zsS (zsS (zsN (zsN (zsN (zsN (zs0)))))))))) ?_
                      exact hj642  _ hw
                    · have hw := hw.2 c652
                      refine z_iconst hX (v := (0 : Int32)) dL_law_868 (by decide) ?_
                      exact z_ireturn hX hR dL_law_869 (zn_z hw.1) hw.2
              · have hw := hw.2 c640
                refine z_iconst hX (v := (0 : Int32)) dL_law_851 (by decide) ?_
                exact z_ireturn hX hR dL_law_852 (zn_z hw.1) hw.2
            · refine z_if_eq hX dL_law_823 (tgt := 830) rfl (fun c653 => ?_) (fun c653 => ?_)
              · have hw := hw.1 c653
                refine z_iconst hX (v := (0 : Int32)) dL_law_830 (by decide) ?_
                exact hj617 _ _ hw
              · have hw := hw.2 c653
                refine z_iconst hX (v := (1 : Int32)) dL_law_826 (by decide) ?_
                refine z_goto hX dL_law_827 (tgt := 831) rfl ?_
                exact hj617 _ _ hw
          · refine z_if_eq hX dL_law_796 (tgt := 803) rfl (fun c654 => ?_) (fun c654 => ?_)
            · have hw := hw.1 c654
              refine z_iconst hX (v := (0 : Int32)) dL_law_803 (by decide) ?_
              exact hj595 _ _ hw
            · have hw := hw.2 c654
              refine z_iconst hX (v := (1 : Int32)) dL_law_799 (by decide) ?_
              refine z_goto hX dL_law_800 (tgt := 804) rfl ?_
              exact hj595 _ _ hw
        | 13, _, c42 =>
          have c42 : (v36 &&& (63 : Int32)) = (13) := c42
          refine z_tableIn hX dL_law_40 (by rw [c42]; decide) (by rw [c42]; decide) (off := 833) (by rw [c42]; rfl) (tgt := 873) rfl ?_
          have hw := hw.2.2.2.2.2.2.2.2.2.2.2.2.2.2.1 c42
          refine z_aload_n hX dL_law_873 rfl (i := 1) rfl ?_
          refine z_aload_n hX dL_law_874 rfl (i := 0) rfl ?_
          refine z_iload hX dL_law_875 (i := 4) rfl ?_
          refine z_iconst hX (v := (1 : Int32)) dL_law_877 (by decide) ?_
          refine z_iadd hX dL_law_878 ?_
          obtain ⟨a655, n656, f657, r658, m659, i660, hw⟩ := hw
          refine z_iald hX dL_law_879 r658 m659 i660 ?_
          revert hw
          generalize f657 (Int32.toNatClampNeg (p20 + (1 : Int32))) = v661
          intro hw
          refine z_aload_n hX dL_law_880 rfl (i := 0) rfl ?_
          refine z_iload hX dL_law_881 (i := 4) rfl ?_
          refine z_iconst hX (v := (2 : Int32)) dL_law_883 (by decide) ?_
          refine z_iadd hX dL_law_884 ?_
          obtain ⟨a663, n664, f665, r666, m667, i668, hw⟩ := hw
          refine z_iald hX dL_law_885 r666 m667 i668 ?_
          revert hw
          generalize f665 (Int32.toNatClampNeg (p20 + (2 : Int32))) = v669
          intro hw
          refine z_aload_n hX dL_law_886 rfl (i := 3) rfl ?_
          refine z_invSX hX hd dL_law_887 (hC 8 _ zm8 _ _ _ _ hw) q2027 q2028 zh0 q2029 q129 zn8 rfl (Nat.le_of_ble_eq_true rfl) (st := []) rfl (zcs8 (Nat.le_of_ble_eq_true rfl)) rfl (zkI (fun v671 s672 hw => ?_)) (zout hX hR hTb)
          refine z_istore hX dL_law_890 (i := 5) (Nat.le_of_ble_eq_true rfl) rfl (ls2 := [some (va_rf (some b)), some (va_rf (some σ.2.1)), some (va_rf (some s5.2.1)), some (va_rf (some s13.2.1)), some (.int p20), some (.int v671), none, none, none]) rfl ?_
          refine z_aload_n hX dL_law_892 rfl (i := 2) rfl ?_
          refine z_aload_n hX dL_law_893 rfl (i := 0) rfl ?_
          refine z_iload hX dL_law_894 (i := 4) rfl ?_
          refine z_iconst hX (v := (1 : Int32)) dL_law_896 (by decide) ?_
          refine z_iadd hX dL_law_897 ?_
          obtain ⟨a674, n675, f676, r677, m678, i679, hw⟩ := hw
          refine z_iald hX dL_law_898 r677 m678 i679 ?_
          revert hw
          generalize f676 (Int32.toNatClampNeg (p20 + (1 : Int32))) = v680
          intro hw
          refine z_aload_n hX dL_law_899 rfl (i := 0) rfl ?_
          refine z_iload hX dL_law_900 (i := 4) rfl ?_
          refine z_iconst hX (v := (2 : Int32)) dL_law_902 (by decide) ?_
          refine z_iadd hX dL_law_903 ?_
          obtain ⟨a682, n683, f684, r685, m686, i687, hw⟩ := hw
          refine z_iald hX dL_law_904 r685 m686 i687 ?_
          revert hw
          generalize f684 (Int32.toNatClampNeg (p20 + (2 : Int32))) = v688
          intro hw
          obtain ⟨a693, f694, r695, m696, hw⟩ := hw
          refine z_invV hX hd r695 (ci := 4) rfl rfl m696 dL_law_905 (hC 193 _ zm193 _ _ _ _ hw) q2737 q2738 q2739 zh7 q2740 q136 zn193 rfl (Nat.le_of_ble_eq_true rfl) (st := []) rfl (zcs8 (Nat.le_of_ble_eq_true rfl)) rfl (zkI (fun v690 s691 hw => ?_)) (zout hX hR hTb)
          refine z_istore hX dL_law_908 (i := 6) (Nat.le_of_ble_eq_true rfl) rfl (ls2 := [some (va_rf (some b)), some (va_rf (some σ.2.1)), some (va_rf (some s5.2.1)), some (va_rf (some s13.2.1)), some (.int p20), some (.int v671), some (.int v690), none, none]) rfl ?_
          refine z_aload_n hX dL_law_910 rfl (i := 2) rfl ?_
          obtain ⟨a700, f701, r702, m703, hw⟩ := hw
          refine z_invV hX hd r702 (ci := 4) rfl rfl m703 dL_law_911 (hC 156 _ zm156 _ _ _ _ hw) q2593 q2594 q2595 zh7 q2596 q136 zn156 rfl (Nat.le_of_ble_eq_true rfl) (st := []) rfl (zcs8 (Nat.le_of_ble_eq_true rfl)) rfl (zkI (fun v697 s698 hw => ?_)) (zout hX hR hTb)
          refine z_iload hX dL_law_914 (i := 5) rfl ?_
          refine z_icmp_eq hX dL_law_916 (tgt := 921) rfl (fun c704 => ?_) (fun c704 => ?_)
          · have hw := hw.1 c704
            refine z_iload hX dL_law_921 (i := 5) rfl ?_
            refine zJ_w (P := fun (j : zS → Prop) => ∀  (s705 : zS), j  s705 → zW X s705 938 [some (va_rf (some b)), some (va_rf (some σ.2.1)), some (va_rf (some s5.2.1)), some (va_rf (some s13.2.1)), some (.int p20), none, none, none, none] []) hw (fun  s705 hw => ?_) (fun j706 hj706 hw => ?_)
            · refine z_goto hX dL_law_938 (tgt := 2124) rfl ?_
              exact hj39  _ hw
            · refine z_if_ne hX dL_law_923 (tgt := 938) rfl (fun c707 => ?_) (fun c707 => ?_)
              · have hw := hw.1 c707
                refine z_sub (ls' := [some (va_rf (some b)), some (va_rf (some σ.2.1)), some (va_rf (some s5.2.1)), some (va_rf (some s13.2.1)), some (.int p20), none, none, none, none]) (zsS (zsS (zsS (zsS (zsS (zsN (zsN (zsN (zsN (zs0)))))))))) ?_
                exact hj706  _ hw
              · have hw := hw.2 c707
                refine z_aload_n hX dL_law_926 rfl (i := 3) rfl ?_
                refine z_iconst hX (v := (0 : Int32)) dL_law_927 (by decide) ?_
                obtain ⟨a708, n709, f710, r711, m712, i713, hw⟩ := hw
                refine z_lald hX dL_law_928 r711 m712 i713 ?_
                revert hw
                generalize f710 (Int32.toNatClampNeg (0 : Int32)) = v714
                intro hw
                refine z_iload hX dL_law_929 (i := 6) rfl ?_
                refine z_i2l hX dL_law_931 ?_
                refine z_lcmp hX dL_law_932 ?_
                refine z_if_eq hX dL_law_933 (tgt := 938) rfl (fun c716 => ?_) (fun c716 => ?_)
                · have hw := hw.1 c716
                  refine z_sub (ls' := [some (va_rf (some b)), some (va_rf (some σ.2.1)), some (va_rf (some s5.2.1)), some (va_rf (some s13.2.1)), some (.int p20), none, none, none, none]) (zsS (zsS (zsS (zsS (zsS (zsN (zsN (zsN (zsN (zs0)))))))))) ?_
                  exact hj706  _ hw
                · have hw := hw.2 c716
                  refine z_iconst hX (v := (0 : Int32)) dL_law_936 (by decide) ?_
                  exact z_ireturn hX hR dL_law_937 (zn_z hw.1) hw.2
          · have hw := hw.2 c704
            refine z_iconst hX (v := (0 : Int32)) dL_law_919 (by decide) ?_
            exact z_ireturn hX hR dL_law_920 (zn_z hw.1) hw.2
        | 14, _, c42 =>
          have c42 : (v36 &&& (63 : Int32)) = (14) := c42
          refine z_tableIn hX dL_law_40 (by rw [c42]; decide) (by rw [c42]; decide) (off := 901) (by rw [c42]; rfl) (tgt := 941) rfl ?_
          have hw := hw.2.2.2.2.2.2.2.2.2.2.2.2.2.2.2.1 c42
          refine z_aload_n hX dL_law_941 rfl (i := 1) rfl ?_
          refine z_aload_n hX dL_law_942 rfl (i := 0) rfl ?_
          refine z_iload hX dL_law_943 (i := 4) rfl ?_
          refine z_iconst hX (v := (1 : Int32)) dL_law_945 (by decide) ?_
          refine z_iadd hX dL_law_946 ?_
          obtain ⟨a717, n718, f719, r720, m721, i722, hw⟩ := hw
          refine z_iald hX dL_law_947 r720 m721 i722 ?_
          revert hw
          generalize f719 (Int32.toNatClampNeg (p20 + (1 : Int32))) = v723
          intro hw
          refine zJ_w (P := fun (j : Int32 → zS → Prop) => ∀ (p725 : Int32) (s726 : zS), j p725 s726 → zW X s726 956 [some (va_rf (some b)), some (va_rf (some σ.2.1)), some (va_rf (some s5.2.1)), some (va_rf (some s13.2.1)), some (.int p20), none, none, none, none] [.int p725, va_rf (some σ.2.1)]) hw (fun p725 s726 hw => ?_) (fun j727 hj727 hw => ?_)
          · obtain ⟨a731, f732, r733, m734, hw⟩ := hw
            refine z_invV hX hd r733 (ci := 0) rfl rfl m734 dL_law_956 (hC 30 _ zm30 _ _ _ _ hw) q467 q468 q469 zh1 q470 q130 zn30 rfl (Nat.le_of_ble_eq_true rfl) (st := []) rfl (zcs8 (Nat.le_of_ble_eq_true rfl)) rfl (zkL (fun v728 s729 hw => ?_)) (zout hX hR hTb)
            refine z_aload_n hX dL_law_959 rfl (i := 2) rfl ?_
            refine z_aload_n hX dL_law_960 rfl (i := 0) rfl ?_
            refine z_iload hX dL_law_961 (i := 4) rfl ?_
            refine z_iconst hX (v := (1 : Int32)) dL_law_963 (by decide) ?_
            refine z_iadd hX dL_law_964 ?_
            obtain ⟨a735, n736, f737, r738, m739, i740, hw⟩ := hw
            refine z_iald hX dL_law_965 r738 m739 i740 ?_
            revert hw
            generalize f737 (Int32.toNatClampNeg (p20 + (1 : Int32))) = v741
            intro hw
            refine zJ_w (P := fun (j : Int32 → zS → Prop) => ∀ (p743 : Int32) (s744 : zS), j p743 s744 → zW X s744 974 [some (va_rf (some b)), some (va_rf (some σ.2.1)), some (va_rf (some s5.2.1)), some (va_rf (some s13.2.1)), some (.int p20), none, none, none, none] [.int p743, va_rf (some s5.2.1), .long v728]) hw (fun p743 s744 hw => ?_) (fun j745 hj745 hw => ?_)
            · obtain ⟨a749, f750, r751, m752, hw⟩ := hw
              refine z_invV hX hd r751 (ci := 4) rfl rfl m752 dL_law_974 (hC 195 _ zm195 _ _ _ _ hw) q2745 q2746 q2747 zh7 q2748 q136 zn195 rfl (Nat.le_of_ble_eq_true rfl) (st := [.long v728]) rfl (zcs8 (Nat.le_of_ble_eq_true rfl)) rfl (zkL (fun v746 s747 hw => ?_)) (zout hX hR hTb)
              refine z_lcmp hX dL_law_977 ?_
              refine z_if_eq hX dL_law_978 (tgt := 2124) rfl (fun c753 => ?_) (fun c753 => ?_)
              · have hw := hw.1 c753
                exact hj39  _ hw
              · have hw := hw.2 c753
                refine z_iconst hX (v := (0 : Int32)) dL_law_981 (by decide) ?_
                exact z_ireturn hX hR dL_law_982 (zn_z hw.1) hw.2
            · refine z_if_eq hX dL_law_966 (tgt := 973) rfl (fun c754 => ?_) (fun c754 => ?_)
              · have hw := hw.1 c754
                refine z_iconst hX (v := (0 : Int32)) dL_law_973 (by decide) ?_
                exact hj745 _ _ hw
              · have hw := hw.2 c754
                refine z_iconst hX (v := (1 : Int32)) dL_law_969 (by decide) ?_
                refine z_goto hX dL_law_970 (tgt := 974) rfl ?_
                exact hj745 _ _ hw
          · refine z_if_eq hX dL_law_948 (tgt := 955) rfl (fun c755 => ?_) (fun c755 => ?_)
            · have hw := hw.1 c755
              refine z_iconst hX (v := (0 : Int32)) dL_law_955 (by decide) ?_
              exact hj727 _ _ hw
            · have hw := hw.2 c755
              refine z_iconst hX (v := (1 : Int32)) dL_law_951 (by decide) ?_
              refine z_goto hX dL_law_952 (tgt := 956) rfl ?_
              exact hj727 _ _ hw
        | 15, _, c42 =>
          have c42 : (v36 &&& (63 : Int32)) = (15) := c42
          refine z_tableIn hX dL_law_40 (by rw [c42]; decide) (by rw [c42]; decide) (off := 943) (by rw [c42]; rfl) (tgt := 983) rfl ?_
          have hw := hw.2.2.2.2.2.2.2.2.2.2.2.2.2.2.2.2.1 c42
          refine z_aload_n hX dL_law_983 rfl (i := 1) rfl ?_
          refine z_aload_n hX dL_law_984 rfl (i := 0) rfl ?_
          refine z_iload hX dL_law_985 (i := 4) rfl ?_
          refine z_iconst hX (v := (1 : Int32)) dL_law_987 (by decide) ?_
          refine z_iadd hX dL_law_988 ?_
          obtain ⟨a756, n757, f758, r759, m760, i761, hw⟩ := hw
          refine z_iald hX dL_law_989 r759 m760 i761 ?_
          revert hw
          generalize f758 (Int32.toNatClampNeg (p20 + (1 : Int32))) = v762
          intro hw
          refine zJ_w (P := fun (j : Int32 → zS → Prop) => ∀ (p764 : Int32) (s765 : zS), j p764 s765 → zW X s765 998 [some (va_rf (some b)), some (va_rf (some σ.2.1)), some (va_rf (some s5.2.1)), some (va_rf (some s13.2.1)), some (.int p20), none, none, none, none] [.int p764, va_rf (some σ.2.1)]) hw (fun p764 s765 hw => ?_) (fun j766 hj766 hw => ?_)
          · obtain ⟨a770, f771, r772, m773, hw⟩ := hw
            refine z_invV hX hd r772 (ci := 0) rfl rfl m773 dL_law_998 (hC 33 _ zm33 _ _ _ _ hw) q625 q626 q627 zh1 q628 q130 zn33 rfl (Nat.le_of_ble_eq_true rfl) (st := []) rfl (zcs8 (Nat.le_of_ble_eq_true rfl)) rfl (zkI (fun v767 s768 hw => ?_)) (zout hX hR hTb)
            refine z_aload_n hX dL_law_1001 rfl (i := 2) rfl ?_
            refine z_aload_n hX dL_law_1002 rfl (i := 0) rfl ?_
            refine z_iload hX dL_law_1003 (i := 4) rfl ?_
            refine z_iconst hX (v := (1 : Int32)) dL_law_1005 (by decide) ?_
            refine z_iadd hX dL_law_1006 ?_
            obtain ⟨a774, n775, f776, r777, m778, i779, hw⟩ := hw
            refine z_iald hX dL_law_1007 r777 m778 i779 ?_
            revert hw
            generalize f776 (Int32.toNatClampNeg (p20 + (1 : Int32))) = v780
            intro hw
            refine zJ_w (P := fun (j : Int32 → zS → Prop) => ∀ (p782 : Int32) (s783 : zS), j p782 s783 → zW X s783 1016 [some (va_rf (some b)), some (va_rf (some σ.2.1)), some (va_rf (some s5.2.1)), some (va_rf (some s13.2.1)), some (.int p20), none, none, none, none] [.int p782, va_rf (some s5.2.1), .int v767]) hw (fun p782 s783 hw => ?_) (fun j784 hj784 hw => ?_)
            · obtain ⟨a788, f789, r790, m791, hw⟩ := hw
              refine z_invV hX hd r790 (ci := 4) rfl rfl m791 dL_law_1016 (hC 212 _ zm212 _ _ _ _ hw) q2813 q2814 q2815 zh7 q2816 q136 zn212 rfl (Nat.le_of_ble_eq_true rfl) (st := [.int v767]) rfl (zcs8 (Nat.le_of_ble_eq_true rfl)) rfl (zkI (fun v785 s786 hw => ?_)) (zout hX hR hTb)
              refine z_icmp_eq hX dL_law_1019 (tgt := 2124) rfl (fun c792 => ?_) (fun c792 => ?_)
              · have hw := hw.1 c792
                exact hj39  _ hw
              · have hw := hw.2 c792
                refine z_iconst hX (v := (0 : Int32)) dL_law_1022 (by decide) ?_
                exact z_ireturn hX hR dL_law_1023 (zn_z hw.1) hw.2
            · refine z_if_eq hX dL_law_1008 (tgt := 1015) rfl (fun c793 => ?_) (fun c793 => ?_)
              · have hw := hw.1 c793
                refine z_iconst hX (v := (0 : Int32)) dL_law_1015 (by decide) ?_
                exact hj784 _ _ hw
              · have hw := hw.2 c793
                refine z_iconst hX (v := (1 : Int32)) dL_law_1011 (by decide) ?_
                refine z_goto hX dL_law_1012 (tgt := 1016) rfl ?_
                exact hj784 _ _ hw
          · refine z_if_eq hX dL_law_990 (tgt := 997) rfl (fun c794 => ?_) (fun c794 => ?_)
            · have hw := hw.1 c794
              refine z_iconst hX (v := (0 : Int32)) dL_law_997 (by decide) ?_
              exact hj766 _ _ hw
            · have hw := hw.2 c794
              refine z_iconst hX (v := (1 : Int32)) dL_law_993 (by decide) ?_
              refine z_goto hX dL_law_994 (tgt := 998) rfl ?_
              exact hj766 _ _ hw
        | 16, _, c42 =>
          have c42 : (v36 &&& (63 : Int32)) = (16) := c42
          refine z_tableIn hX dL_law_40 (by rw [c42]; decide) (by rw [c42]; decide) (off := 984) (by rw [c42]; rfl) (tgt := 1024) rfl ?_
          have hw := hw.2.2.2.2.2.2.2.2.2.2.2.2.2.2.2.2.2.1 c42
          refine z_aload_n hX dL_law_1024 rfl (i := 1) rfl ?_
          refine z_aload_n hX dL_law_1025 rfl (i := 0) rfl ?_
          refine z_iload hX dL_law_1026 (i := 4) rfl ?_
          refine z_iconst hX (v := (1 : Int32)) dL_law_1028 (by decide) ?_
          refine z_iadd hX dL_law_1029 ?_
          obtain ⟨a795, n796, f797, r798, m799, i800, hw⟩ := hw
          refine z_iald hX dL_law_1030 r798 m799 i800 ?_
          revert hw
          generalize f797 (Int32.toNatClampNeg (p20 + (1 : Int32))) = v801
          intro hw
          refine zJ_w (P := fun (j : Int32 → zS → Prop) => ∀ (p803 : Int32) (s804 : zS), j p803 s804 → zW X s804 1039 [some (va_rf (some b)), some (va_rf (some σ.2.1)), some (va_rf (some s5.2.1)), some (va_rf (some s13.2.1)), some (.int p20), none, none, none, none] [.int p803, va_rf (some σ.2.1)]) hw (fun p803 s804 hw => ?_) (fun j805 hj805 hw => ?_)
          · refine z_aload_n hX dL_law_1039 rfl (i := 0) rfl ?_
            refine z_iload hX dL_law_1040 (i := 4) rfl ?_
            refine z_iconst hX (v := (2 : Int32)) dL_law_1042 (by decide) ?_
            refine z_iadd hX dL_law_1043 ?_
            obtain ⟨a806, n807, f808, r809, m810, i811, hw⟩ := hw
            refine z_iald hX dL_law_1044 r809 m810 i811 ?_
            revert hw
            generalize f808 (Int32.toNatClampNeg (p20 + (2 : Int32))) = v812
            intro hw
            refine z_aload_n hX dL_law_1045 rfl (i := 0) rfl ?_
            refine z_iload hX dL_law_1046 (i := 4) rfl ?_
            refine z_iconst hX (v := (3 : Int32)) dL_law_1048 (by decide) ?_
            refine z_iadd hX dL_law_1049 ?_
            obtain ⟨a814, n815, f816, r817, m818, i819, hw⟩ := hw
            refine z_iald hX dL_law_1050 r817 m818 i819 ?_
            revert hw
            generalize f816 (Int32.toNatClampNeg (p20 + (3 : Int32))) = v820
            intro hw
            refine zJ_w (P := fun (j : Int32 → zS → Prop) => ∀ (p822 : Int32) (s823 : zS), j p822 s823 → zW X s823 1059 [some (va_rf (some b)), some (va_rf (some σ.2.1)), some (va_rf (some s5.2.1)), some (va_rf (some s13.2.1)), some (.int p20), none, none, none, none] [.int p822, .int v812, .int p803, va_rf (some σ.2.1)]) hw (fun p822 s823 hw => ?_) (fun j824 hj824 hw => ?_)
            · refine z_aload_n hX dL_law_1059 rfl (i := 3) rfl ?_
              refine z_invSX hX hd dL_law_1060 (hC 9 _ zm9 _ _ _ _ hw) q2035 q2036 zh0 q2037 q129 zn9 rfl (Nat.le_of_ble_eq_true rfl) (st := []) rfl (zcs8 (Nat.le_of_ble_eq_true rfl)) rfl (zkI (fun v825 s826 hw => ?_)) (zout hX hR hTb)
              refine z_istore hX dL_law_1063 (i := 5) (Nat.le_of_ble_eq_true rfl) rfl (ls2 := [some (va_rf (some b)), some (va_rf (some σ.2.1)), some (va_rf (some s5.2.1)), some (va_rf (some s13.2.1)), some (.int p20), some (.int v825), none, none, none]) rfl ?_
              refine z_aload_n hX dL_law_1065 rfl (i := 2) rfl ?_
              refine z_aload_n hX dL_law_1066 rfl (i := 0) rfl ?_
              refine z_iload hX dL_law_1067 (i := 4) rfl ?_
              refine z_iconst hX (v := (1 : Int32)) dL_law_1069 (by decide) ?_
              refine z_iadd hX dL_law_1070 ?_
              obtain ⟨a828, n829, f830, r831, m832, i833, hw⟩ := hw
              refine z_iald hX dL_law_1071 r831 m832 i833 ?_
              revert hw
              generalize f830 (Int32.toNatClampNeg (p20 + (1 : Int32))) = v834
              intro hw
              refine zJ_w (P := fun (j : Int32 → zS → Prop) => ∀ (p836 : Int32) (s837 : zS), j p836 s837 → zW X s837 1080 [some (va_rf (some b)), some (va_rf (some σ.2.1)), some (va_rf (some s5.2.1)), some (va_rf (some s13.2.1)), some (.int p20), some (.int v825), none, none, none] [.int p836, va_rf (some s5.2.1)]) hw (fun p836 s837 hw => ?_) (fun j838 hj838 hw => ?_)
              · refine z_aload_n hX dL_law_1080 rfl (i := 0) rfl ?_
                refine z_iload hX dL_law_1081 (i := 4) rfl ?_
                refine z_iconst hX (v := (2 : Int32)) dL_law_1083 (by decide) ?_
                refine z_iadd hX dL_law_1084 ?_
                obtain ⟨a839, n840, f841, r842, m843, i844, hw⟩ := hw
                refine z_iald hX dL_law_1085 r842 m843 i844 ?_
                revert hw
                generalize f841 (Int32.toNatClampNeg (p20 + (2 : Int32))) = v845
                intro hw
                refine z_aload_n hX dL_law_1086 rfl (i := 0) rfl ?_
                refine z_iload hX dL_law_1087 (i := 4) rfl ?_
                refine z_iconst hX (v := (3 : Int32)) dL_law_1089 (by decide) ?_
                refine z_iadd hX dL_law_1090 ?_
                obtain ⟨a847, n848, f849, r850, m851, i852, hw⟩ := hw
                refine z_iald hX dL_law_1091 r850 m851 i852 ?_
                revert hw
                generalize f849 (Int32.toNatClampNeg (p20 + (3 : Int32))) = v853
                intro hw
                refine zJ_w (P := fun (j : Int32 → zS → Prop) => ∀ (p855 : Int32) (s856 : zS), j p855 s856 → zW X s856 1100 [some (va_rf (some b)), some (va_rf (some σ.2.1)), some (va_rf (some s5.2.1)), some (va_rf (some s13.2.1)), some (.int p20), some (.int v825), none, none, none] [.int p855, .int v845, .int p836, va_rf (some s5.2.1)]) hw (fun p855 s856 hw => ?_) (fun j857 hj857 hw => ?_)
                · obtain ⟨a861, f862, r863, m864, hw⟩ := hw
                  refine z_invV hX hd r863 (ci := 4) rfl rfl m864 dL_law_1100 (hC 213 _ zm213 _ _ _ _ hw) q2817 q2818 q2819 zh7 q2820 q136 zn213 rfl (Nat.le_of_ble_eq_true rfl) (st := []) rfl (zcs8 (Nat.le_of_ble_eq_true rfl)) rfl (zkL (fun v858 s859 hw => ?_)) (zout hX hR hTb)
                  refine z_lstore hX dL_law_1103 (i := 6) (Nat.le_of_ble_eq_true rfl) rfl (ls2 := [some (va_rf (some b)), some (va_rf (some σ.2.1)), some (va_rf (some s5.2.1)), some (va_rf (some s13.2.1)), some (.int p20), some (.int v825), some (.long v858), none, none]) rfl ?_
                  refine z_aload_n hX dL_law_1105 rfl (i := 2) rfl ?_
                  obtain ⟨a868, f869, r870, m871, hw⟩ := hw
                  refine z_invV hX hd r870 (ci := 4) rfl rfl m871 dL_law_1106 (hC 156 _ zm156 _ _ _ _ hw) q2593 q2594 q2595 zh7 q2596 q136 zn156 rfl (Nat.le_of_ble_eq_true rfl) (st := []) rfl (zcs8 (Nat.le_of_ble_eq_true rfl)) rfl (zkI (fun v865 s866 hw => ?_)) (zout hX hR hTb)
                  refine z_iload hX dL_law_1109 (i := 5) rfl ?_
                  refine z_icmp_eq hX dL_law_1111 (tgt := 1116) rfl (fun c872 => ?_) (fun c872 => ?_)
                  · have hw := hw.1 c872
                    refine z_iload hX dL_law_1116 (i := 5) rfl ?_
                    refine zJ_w (P := fun (j : zS → Prop) => ∀  (s873 : zS), j  s873 → zW X s873 1132 [some (va_rf (some b)), some (va_rf (some σ.2.1)), some (va_rf (some s5.2.1)), some (va_rf (some s13.2.1)), some (.int p20), none, none, none, none] []) hw (fun  s873 hw => ?_) (fun j874 hj874 hw => ?_)
                    · refine z_goto hX dL_law_1132 (tgt := 2124) rfl ?_
                      exact hj39  _ hw
                    · refine z_if_ne hX dL_law_1118 (tgt := 1132) rfl (fun c875 => ?_) (fun c875 => ?_)
                      · have hw := hw.1 c875
                        refine z_sub (ls' := [some (va_rf (some b)), some (va_rf (some σ.2.1)), some (va_rf (some s5.2.1)), some (va_rf (some s13.2.1)), some (.int p20), none, none, none, none]) (zsS (zsS (zsS (zsS (zsS (zsN (zsN (zsN (zsN (zs0)))))))))) ?_
                        exact hj874  _ hw
                      · have hw := hw.2 c875
                        refine z_aload_n hX dL_law_1121 rfl (i := 3) rfl ?_
                        refine z_iconst hX (v := (0 : Int32)) dL_law_1122 (by decide) ?_
                        obtain ⟨a876, n877, f878, r879, m880, i881, hw⟩ := hw
                        refine z_lald hX dL_law_1123 r879 m880 i881 ?_
                        revert hw
                        generalize f878 (Int32.toNatClampNeg (0 : Int32)) = v882
                        intro hw
                        refine z_lload hX dL_law_1124 (i := 6) rfl ?_
                        refine z_lcmp hX dL_law_1126 ?_
                        refine z_if_eq hX dL_law_1127 (tgt := 1132) rfl (fun c884 => ?_) (fun c884 => ?_)
                        · have hw := hw.1 c884
                          refine z_sub (ls' := [some (va_rf (some b)), some (va_rf (some σ.2.1)), some (va_rf (some s5.2.1)), some (va_rf (some s13.2.1)), some (.int p20), none, none, none, none]) (zsS (zsS (zsS (zsS (zsS (zsN (zsN (zsN (zsN (zs0)))))))))) ?_
                          exact hj874  _ hw
                        · have hw := hw.2 c884
                          refine z_iconst hX (v := (0 : Int32)) dL_law_1130 (by decide) ?_
                          exact z_ireturn hX hR dL_law_1131 (zn_z hw.1) hw.2
                  · have hw := hw.2 c872
                    refine z_iconst hX (v := (0 : Int32)) dL_law_1114 (by decide) ?_
                    exact z_ireturn hX hR dL_law_1115 (zn_z hw.1) hw.2
                · refine z_if_eq hX dL_law_1092 (tgt := 1099) rfl (fun c885 => ?_) (fun c885 => ?_)
                  · have hw := hw.1 c885
                    refine z_iconst hX (v := (0 : Int32)) dL_law_1099 (by decide) ?_
                    exact hj857 _ _ hw
                  · have hw := hw.2 c885
                    refine z_iconst hX (v := (1 : Int32)) dL_law_1095 (by decide) ?_
                    refine z_goto hX dL_law_1096 (tgt := 1100) rfl ?_
                    exact hj857 _ _ hw
              · refine z_if_eq hX dL_law_1072 (tgt := 1079) rfl (fun c886 => ?_) (fun c886 => ?_)
                · have hw := hw.1 c886
                  refine z_iconst hX (v := (0 : Int32)) dL_law_1079 (by decide) ?_
                  exact hj838 _ _ hw
                · have hw := hw.2 c886
                  refine z_iconst hX (v := (1 : Int32)) dL_law_1075 (by decide) ?_
                  refine z_goto hX dL_law_1076 (tgt := 1080) rfl ?_
                  exact hj838 _ _ hw
            · refine z_if_eq hX dL_law_1051 (tgt := 1058) rfl (fun c887 => ?_) (fun c887 => ?_)
              · have hw := hw.1 c887
                refine z_iconst hX (v := (0 : Int32)) dL_law_1058 (by decide) ?_
                exact hj824 _ _ hw
              · have hw := hw.2 c887
                refine z_iconst hX (v := (1 : Int32)) dL_law_1054 (by decide) ?_
                refine z_goto hX dL_law_1055 (tgt := 1059) rfl ?_
                exact hj824 _ _ hw
          · refine z_if_eq hX dL_law_1031 (tgt := 1038) rfl (fun c888 => ?_) (fun c888 => ?_)
            · have hw := hw.1 c888
              refine z_iconst hX (v := (0 : Int32)) dL_law_1038 (by decide) ?_
              exact hj805 _ _ hw
            · have hw := hw.2 c888
              refine z_iconst hX (v := (1 : Int32)) dL_law_1034 (by decide) ?_
              refine z_goto hX dL_law_1035 (tgt := 1039) rfl ?_
              exact hj805 _ _ hw
        | 17, _, c42 =>
          have c42 : (v36 &&& (63 : Int32)) = (17) := c42
          refine z_tableIn hX dL_law_40 (by rw [c42]; decide) (by rw [c42]; decide) (off := 1095) (by rw [c42]; rfl) (tgt := 1135) rfl ?_
          have hw := hw.2.2.2.2.2.2.2.2.2.2.2.2.2.2.2.2.2.2.1 c42
          refine z_aload_n hX dL_law_1135 rfl (i := 1) rfl ?_
          obtain ⟨a892, f893, r894, m895, hw⟩ := hw
          refine z_invV hX hd r894 (ci := 0) rfl rfl m895 dL_law_1136 (hC 34 _ zm34 _ _ _ _ hw) q629 q630 q631 zh1 q632 q130 zn34 rfl (Nat.le_of_ble_eq_true rfl) (st := []) rfl (zcs8 (Nat.le_of_ble_eq_true rfl)) rfl (zkI (fun v889 s890 hw => ?_)) (zout hX hR hTb)
          refine z_aload_n hX dL_law_1139 rfl (i := 2) rfl ?_
          obtain ⟨a899, f900, r901, m902, hw⟩ := hw
          refine z_invV hX hd r901 (ci := 4) rfl rfl m902 dL_law_1140 (hC 214 _ zm214 _ _ _ _ hw) q2821 q2822 q2823 zh7 q2824 q136 zn214 rfl (Nat.le_of_ble_eq_true rfl) (st := [.int v889]) rfl (zcs8 (Nat.le_of_ble_eq_true rfl)) rfl (zkI (fun v896 s897 hw => ?_)) (zout hX hR hTb)
          refine z_icmp_eq hX dL_law_1143 (tgt := 2124) rfl (fun c903 => ?_) (fun c903 => ?_)
          · have hw := hw.1 c903
            exact hj39  _ hw
          · have hw := hw.2 c903
            refine z_iconst hX (v := (0 : Int32)) dL_law_1146 (by decide) ?_
            exact z_ireturn hX hR dL_law_1147 (zn_z hw.1) hw.2
        | 18, _, c42 =>
          have c42 : (v36 &&& (63 : Int32)) = (18) := c42
          refine z_tableIn hX dL_law_40 (by rw [c42]; decide) (by rw [c42]; decide) (off := 1108) (by rw [c42]; rfl) (tgt := 1148) rfl ?_
          have hw := hw.2.2.2.2.2.2.2.2.2.2.2.2.2.2.2.2.2.2.2.1 c42
          refine z_aload_n hX dL_law_1148 rfl (i := 1) rfl ?_
          refine z_aload_n hX dL_law_1149 rfl (i := 0) rfl ?_
          refine z_iload hX dL_law_1150 (i := 4) rfl ?_
          refine z_iconst hX (v := (1 : Int32)) dL_law_1152 (by decide) ?_
          refine z_iadd hX dL_law_1153 ?_
          obtain ⟨a904, n905, f906, r907, m908, i909, hw⟩ := hw
          refine z_iald hX dL_law_1154 r907 m908 i909 ?_
          revert hw
          generalize f906 (Int32.toNatClampNeg (p20 + (1 : Int32))) = v910
          intro hw
          refine z_aload_n hX dL_law_1155 rfl (i := 3) rfl ?_
          refine z_invSX hX hd dL_law_1156 (hC 10 _ zm10 _ _ _ _ hw) q2042 q2043 zh0 q2044 q129 zn10 rfl (Nat.le_of_ble_eq_true rfl) (st := []) rfl (zcs8 (Nat.le_of_ble_eq_true rfl)) rfl (zkI (fun v912 s913 hw => ?_)) (zout hX hR hTb)
          refine z_istore hX dL_law_1159 (i := 5) (Nat.le_of_ble_eq_true rfl) rfl (ls2 := [some (va_rf (some b)), some (va_rf (some σ.2.1)), some (va_rf (some s5.2.1)), some (va_rf (some s13.2.1)), some (.int p20), some (.int v912), none, none, none]) rfl ?_
          refine z_aload_n hX dL_law_1161 rfl (i := 2) rfl ?_
          refine z_aload_n hX dL_law_1162 rfl (i := 0) rfl ?_
          refine z_iload hX dL_law_1163 (i := 4) rfl ?_
          refine z_iconst hX (v := (1 : Int32)) dL_law_1165 (by decide) ?_
          refine z_iadd hX dL_law_1166 ?_
          obtain ⟨a915, n916, f917, r918, m919, i920, hw⟩ := hw
          refine z_iald hX dL_law_1167 r918 m919 i920 ?_
          revert hw
          generalize f917 (Int32.toNatClampNeg (p20 + (1 : Int32))) = v921
          intro hw
          obtain ⟨a926, f927, r928, m929, hw⟩ := hw
          refine z_invV hX hd r928 (ci := 4) rfl rfl m929 dL_law_1168 (hC 215 _ zm215 _ _ _ _ hw) q2825 q2826 q2827 zh7 q2828 q136 zn215 rfl (Nat.le_of_ble_eq_true rfl) (st := []) rfl (zcs8 (Nat.le_of_ble_eq_true rfl)) rfl (zkI (fun v923 s924 hw => ?_)) (zout hX hR hTb)
          refine z_istore hX dL_law_1171 (i := 6) (Nat.le_of_ble_eq_true rfl) rfl (ls2 := [some (va_rf (some b)), some (va_rf (some σ.2.1)), some (va_rf (some s5.2.1)), some (va_rf (some s13.2.1)), some (.int p20), some (.int v912), some (.int v923), none, none]) rfl ?_
          refine z_aload_n hX dL_law_1173 rfl (i := 2) rfl ?_
          obtain ⟨a933, f934, r935, m936, hw⟩ := hw
          refine z_invV hX hd r935 (ci := 4) rfl rfl m936 dL_law_1174 (hC 156 _ zm156 _ _ _ _ hw) q2593 q2594 q2595 zh7 q2596 q136 zn156 rfl (Nat.le_of_ble_eq_true rfl) (st := []) rfl (zcs8 (Nat.le_of_ble_eq_true rfl)) rfl (zkI (fun v930 s931 hw => ?_)) (zout hX hR hTb)
          refine z_iload hX dL_law_1177 (i := 5) rfl ?_
          refine z_icmp_eq hX dL_law_1179 (tgt := 1184) rfl (fun c937 => ?_) (fun c937 => ?_)
          · have hw := hw.1 c937
            refine z_iload hX dL_law_1184 (i := 5) rfl ?_
            refine zJ_w (P := fun (j : zS → Prop) => ∀  (s938 : zS), j  s938 → zW X s938 1201 [some (va_rf (some b)), some (va_rf (some σ.2.1)), some (va_rf (some s5.2.1)), some (va_rf (some s13.2.1)), some (.int p20), none, none, none, none] []) hw (fun  s938 hw => ?_) (fun j939 hj939 hw => ?_)
            · refine z_goto hX dL_law_1201 (tgt := 2124) rfl ?_
              exact hj39  _ hw
            · refine z_if_ne hX dL_law_1186 (tgt := 1201) rfl (fun c940 => ?_) (fun c940 => ?_)
              · have hw := hw.1 c940
                refine z_sub (ls' := [some (va_rf (some b)), some (va_rf (some σ.2.1)), some (va_rf (some s5.2.1)), some (va_rf (some s13.2.1)), some (.int p20), none, none, none, none]) (zsS (zsS (zsS (zsS (zsS (zsN (zsN (zsN (zsN (zs0)))))))))) ?_
                exact hj939  _ hw
              · have hw := hw.2 c940
                refine z_aload_n hX dL_law_1189 rfl (i := 3) rfl ?_
                refine z_iconst hX (v := (0 : Int32)) dL_law_1190 (by decide) ?_
                obtain ⟨a941, n942, f943, r944, m945, i946, hw⟩ := hw
                refine z_lald hX dL_law_1191 r944 m945 i946 ?_
                revert hw
                generalize f943 (Int32.toNatClampNeg (0 : Int32)) = v947
                intro hw
                refine z_iload hX dL_law_1192 (i := 6) rfl ?_
                refine z_i2l hX dL_law_1194 ?_
                refine z_lcmp hX dL_law_1195 ?_
                refine z_if_eq hX dL_law_1196 (tgt := 1201) rfl (fun c949 => ?_) (fun c949 => ?_)
                · have hw := hw.1 c949
                  refine z_sub (ls' := [some (va_rf (some b)), some (va_rf (some σ.2.1)), some (va_rf (some s5.2.1)), some (va_rf (some s13.2.1)), some (.int p20), none, none, none, none]) (zsS (zsS (zsS (zsS (zsS (zsN (zsN (zsN (zsN (zs0)))))))))) ?_
                  exact hj939  _ hw
                · have hw := hw.2 c949
                  refine z_iconst hX (v := (0 : Int32)) dL_law_1199 (by decide) ?_
                  exact z_ireturn hX hR dL_law_1200 (zn_z hw.1) hw.2
          · have hw := hw.2 c937
            refine z_iconst hX (v := (0 : Int32)) dL_law_1182 (by decide) ?_
            exact z_ireturn hX hR dL_law_1183 (zn_z hw.1) hw.2
        | 19, _, c42 =>
          have c42 : (v36 &&& (63 : Int32)) = (19) := c42
          refine z_tableIn hX dL_law_40 (by rw [c42]; decide) (by rw [c42]; decide) (off := 1164) (by rw [c42]; rfl) (tgt := 1204) rfl ?_
          have hw := hw.2.2.2.2.2.2.2.2.2.2.2.2.2.2.2.2.2.2.2.2.1 c42
          refine z_aload_n hX dL_law_1204 rfl (i := 1) rfl ?_
          refine z_aload_n hX dL_law_1205 rfl (i := 0) rfl ?_
          refine z_iload hX dL_law_1206 (i := 4) rfl ?_
          refine z_iconst hX (v := (1 : Int32)) dL_law_1208 (by decide) ?_
          refine z_iadd hX dL_law_1209 ?_
          obtain ⟨a950, n951, f952, r953, m954, i955, hw⟩ := hw
          refine z_iald hX dL_law_1210 r953 m954 i955 ?_
          revert hw
          generalize f952 (Int32.toNatClampNeg (p20 + (1 : Int32))) = v956
          intro hw
          refine z_aload_n hX dL_law_1211 rfl (i := 3) rfl ?_
          refine z_invSX hX hd dL_law_1212 (hC 11 _ zm11 _ _ _ _ hw) q2053 q2054 zh0 q2055 q129 zn11 rfl (Nat.le_of_ble_eq_true rfl) (st := []) rfl (zcs8 (Nat.le_of_ble_eq_true rfl)) rfl (zkI (fun v958 s959 hw => ?_)) (zout hX hR hTb)
          refine z_istore hX dL_law_1215 (i := 5) (Nat.le_of_ble_eq_true rfl) rfl (ls2 := [some (va_rf (some b)), some (va_rf (some σ.2.1)), some (va_rf (some s5.2.1)), some (va_rf (some s13.2.1)), some (.int p20), some (.int v958), none, none, none]) rfl ?_
          refine z_aload_n hX dL_law_1217 rfl (i := 2) rfl ?_
          refine z_aload_n hX dL_law_1218 rfl (i := 0) rfl ?_
          refine z_iload hX dL_law_1219 (i := 4) rfl ?_
          refine z_iconst hX (v := (1 : Int32)) dL_law_1221 (by decide) ?_
          refine z_iadd hX dL_law_1222 ?_
          obtain ⟨a961, n962, f963, r964, m965, i966, hw⟩ := hw
          refine z_iald hX dL_law_1223 r964 m965 i966 ?_
          revert hw
          generalize f963 (Int32.toNatClampNeg (p20 + (1 : Int32))) = v967
          intro hw
          obtain ⟨a972, f973, r974, m975, hw⟩ := hw
          refine z_invV hX hd r974 (ci := 4) rfl rfl m975 dL_law_1224 (hC 221 _ zm221 _ _ _ _ hw) q2849 q2850 q2851 zh7 q2852 q136 zn221 rfl (Nat.le_of_ble_eq_true rfl) (st := []) rfl (zcs8 (Nat.le_of_ble_eq_true rfl)) rfl (zkI (fun v969 s970 hw => ?_)) (zout hX hR hTb)
          refine z_istore hX dL_law_1227 (i := 6) (Nat.le_of_ble_eq_true rfl) rfl (ls2 := [some (va_rf (some b)), some (va_rf (some σ.2.1)), some (va_rf (some s5.2.1)), some (va_rf (some s13.2.1)), some (.int p20), some (.int v958), some (.int v969), none, none]) rfl ?_
          refine z_aload_n hX dL_law_1229 rfl (i := 2) rfl ?_
          obtain ⟨a979, f980, r981, m982, hw⟩ := hw
          refine z_invV hX hd r981 (ci := 4) rfl rfl m982 dL_law_1230 (hC 156 _ zm156 _ _ _ _ hw) q2593 q2594 q2595 zh7 q2596 q136 zn156 rfl (Nat.le_of_ble_eq_true rfl) (st := []) rfl (zcs8 (Nat.le_of_ble_eq_true rfl)) rfl (zkI (fun v976 s977 hw => ?_)) (zout hX hR hTb)
          refine z_iload hX dL_law_1233 (i := 5) rfl ?_
          refine z_icmp_eq hX dL_law_1235 (tgt := 1240) rfl (fun c983 => ?_) (fun c983 => ?_)
          · have hw := hw.1 c983
            refine z_iload hX dL_law_1240 (i := 5) rfl ?_
            refine zJ_w (P := fun (j : zS → Prop) => ∀  (s984 : zS), j  s984 → zW X s984 1257 [some (va_rf (some b)), some (va_rf (some σ.2.1)), some (va_rf (some s5.2.1)), some (va_rf (some s13.2.1)), some (.int p20), none, none, none, none] []) hw (fun  s984 hw => ?_) (fun j985 hj985 hw => ?_)
            · refine z_goto hX dL_law_1257 (tgt := 2124) rfl ?_
              exact hj39  _ hw
            · refine z_if_ne hX dL_law_1242 (tgt := 1257) rfl (fun c986 => ?_) (fun c986 => ?_)
              · have hw := hw.1 c986
                refine z_sub (ls' := [some (va_rf (some b)), some (va_rf (some σ.2.1)), some (va_rf (some s5.2.1)), some (va_rf (some s13.2.1)), some (.int p20), none, none, none, none]) (zsS (zsS (zsS (zsS (zsS (zsN (zsN (zsN (zsN (zs0)))))))))) ?_
                exact hj985  _ hw
              · have hw := hw.2 c986
                refine z_aload_n hX dL_law_1245 rfl (i := 3) rfl ?_
                refine z_iconst hX (v := (0 : Int32)) dL_law_1246 (by decide) ?_
                obtain ⟨a987, n988, f989, r990, m991, i992, hw⟩ := hw
                refine z_lald hX dL_law_1247 r990 m991 i992 ?_
                revert hw
                generalize f989 (Int32.toNatClampNeg (0 : Int32)) = v993
                intro hw
                refine z_iload hX dL_law_1248 (i := 6) rfl ?_
                refine z_i2l hX dL_law_1250 ?_
                refine z_lcmp hX dL_law_1251 ?_
                refine z_if_eq hX dL_law_1252 (tgt := 1257) rfl (fun c995 => ?_) (fun c995 => ?_)
                · have hw := hw.1 c995
                  refine z_sub (ls' := [some (va_rf (some b)), some (va_rf (some σ.2.1)), some (va_rf (some s5.2.1)), some (va_rf (some s13.2.1)), some (.int p20), none, none, none, none]) (zsS (zsS (zsS (zsS (zsS (zsN (zsN (zsN (zsN (zs0)))))))))) ?_
                  exact hj985  _ hw
                · have hw := hw.2 c995
                  refine z_iconst hX (v := (0 : Int32)) dL_law_1255 (by decide) ?_
                  exact z_ireturn hX hR dL_law_1256 (zn_z hw.1) hw.2
          · have hw := hw.2 c983
            refine z_iconst hX (v := (0 : Int32)) dL_law_1238 (by decide) ?_
            exact z_ireturn hX hR dL_law_1239 (zn_z hw.1) hw.2
        | 20, _, c42 =>
          have c42 : (v36 &&& (63 : Int32)) = (20) := c42
          refine z_tableIn hX dL_law_40 (by rw [c42]; decide) (by rw [c42]; decide) (off := 1220) (by rw [c42]; rfl) (tgt := 1260) rfl ?_
          have hw := hw.2.2.2.2.2.2.2.2.2.2.2.2.2.2.2.2.2.2.2.2.2.1 c42
          refine z_aload_n hX dL_law_1260 rfl (i := 1) rfl ?_
          obtain ⟨a999, f1000, r1001, m1002, hw⟩ := hw
          refine z_invV hX hd r1001 (ci := 0) rfl rfl m1002 dL_law_1261 (hC 35 _ zm35 _ _ _ _ hw) q637 q638 q639 zh1 q640 q130 zn35 rfl (Nat.le_of_ble_eq_true rfl) (st := []) rfl (zcs8 (Nat.le_of_ble_eq_true rfl)) rfl (zkI (fun v996 s997 hw => ?_)) (zout hX hR hTb)
          refine z_aload_n hX dL_law_1264 rfl (i := 2) rfl ?_
          obtain ⟨a1006, f1007, r1008, m1009, hw⟩ := hw
          refine z_invV hX hd r1008 (ci := 4) rfl rfl m1009 dL_law_1265 (hC 224 _ zm224 _ _ _ _ hw) q2861 q2862 q2863 zh7 q2864 q136 zn224 rfl (Nat.le_of_ble_eq_true rfl) (st := [.int v996]) rfl (zcs8 (Nat.le_of_ble_eq_true rfl)) rfl (zkI (fun v1003 s1004 hw => ?_)) (zout hX hR hTb)
          refine z_icmp_eq hX dL_law_1268 (tgt := 2124) rfl (fun c1010 => ?_) (fun c1010 => ?_)
          · have hw := hw.1 c1010
            exact hj39  _ hw
          · have hw := hw.2 c1010
            refine z_iconst hX (v := (0 : Int32)) dL_law_1271 (by decide) ?_
            exact z_ireturn hX hR dL_law_1272 (zn_z hw.1) hw.2
        | 21, _, c42 =>
          have c42 : (v36 &&& (63 : Int32)) = (21) := c42
          refine z_tableIn hX dL_law_40 (by rw [c42]; decide) (by rw [c42]; decide) (off := 1233) (by rw [c42]; rfl) (tgt := 1273) rfl ?_
          have hw := hw.2.2.2.2.2.2.2.2.2.2.2.2.2.2.2.2.2.2.2.2.2.2.1 c42
          refine z_aload_n hX dL_law_1273 rfl (i := 1) rfl ?_
          obtain ⟨a1014, f1015, r1016, m1017, hw⟩ := hw
          refine z_invV hX hd r1016 (ci := 0) rfl rfl m1017 dL_law_1274 (hC 36 _ zm36 _ _ _ _ hw) q713 q714 q715 zh1 q716 q130 zn36 rfl (Nat.le_of_ble_eq_true rfl) (st := []) rfl (zcs8 (Nat.le_of_ble_eq_true rfl)) rfl (zkI (fun v1011 s1012 hw => ?_)) (zout hX hR hTb)
          refine z_aload_n hX dL_law_1277 rfl (i := 2) rfl ?_
          obtain ⟨a1021, f1022, r1023, m1024, hw⟩ := hw
          refine z_invV hX hd r1023 (ci := 4) rfl rfl m1024 dL_law_1278 (hC 230 _ zm230 _ _ _ _ hw) q2884 q2885 q2886 zh7 q2887 q136 zn230 rfl (Nat.le_of_ble_eq_true rfl) (st := [.int v1011]) rfl (zcs8 (Nat.le_of_ble_eq_true rfl)) rfl (zkI (fun v1018 s1019 hw => ?_)) (zout hX hR hTb)
          refine z_icmp_eq hX dL_law_1281 (tgt := 2124) rfl (fun c1025 => ?_) (fun c1025 => ?_)
          · have hw := hw.1 c1025
            exact hj39  _ hw
          · have hw := hw.2 c1025
            refine z_iconst hX (v := (0 : Int32)) dL_law_1284 (by decide) ?_
            exact z_ireturn hX hR dL_law_1285 (zn_z hw.1) hw.2
        | 22, _, c42 =>
          have c42 : (v36 &&& (63 : Int32)) = (22) := c42
          refine z_tableIn hX dL_law_40 (by rw [c42]; decide) (by rw [c42]; decide) (off := 1246) (by rw [c42]; rfl) (tgt := 1286) rfl ?_
          have hw := hw.2.2.2.2.2.2.2.2.2.2.2.2.2.2.2.2.2.2.2.2.2.2.2.1 c42
          refine z_aload_n hX dL_law_1286 rfl (i := 1) rfl ?_
          obtain ⟨a1029, f1030, r1031, m1032, hw⟩ := hw
          refine z_invV hX hd r1031 (ci := 0) rfl rfl m1032 dL_law_1287 (hC 37 _ zm37 _ _ _ _ hw) q730 q731 q732 zh1 q733 q130 zn37 rfl (Nat.le_of_ble_eq_true rfl) (st := []) rfl (zcs8 (Nat.le_of_ble_eq_true rfl)) rfl (zkD (fun v1026 s1027 hw => ?_)) (zout hX hR hTb)
          refine z_dstore hX dL_law_1290 (i := 5) (Nat.le_of_ble_eq_true rfl) rfl (ls2 := [some (va_rf (some b)), some (va_rf (some σ.2.1)), some (va_rf (some s5.2.1)), some (va_rf (some s13.2.1)), some (.int p20), some (.double v1026), none, none, none]) rfl ?_
          refine z_aload_n hX dL_law_1292 rfl (i := 2) rfl ?_
          obtain ⟨a1036, f1037, r1038, m1039, hw⟩ := hw
          refine z_invV hX hd r1038 (ci := 4) rfl rfl m1039 dL_law_1293 (hC 232 _ zm232 _ _ _ _ hw) q2892 q2893 q2894 zh7 q2895 q136 zn232 rfl (Nat.le_of_ble_eq_true rfl) (st := []) rfl (zcs8 (Nat.le_of_ble_eq_true rfl)) rfl (zkD (fun v1033 s1034 hw => ?_)) (zout hX hR hTb)
          refine z_dstore hX dL_law_1296 (i := 7) (Nat.le_of_ble_eq_true rfl) trivial (ls2 := [some (va_rf (some b)), some (va_rf (some σ.2.1)), some (va_rf (some s5.2.1)), some (va_rf (some s13.2.1)), some (.int p20), some (.double v1026), none, some (.double v1033), none]) rfl ?_
          refine z_dload hX dL_law_1298 (i := 5) rfl ?_
          refine z_dload hX dL_law_1300 (i := 7) rfl ?_
          refine z_dcmp hX dL_law_1302 ?_
          refine zJ_w (P := fun (j : zS → Prop) => ∀  (s1040 : zS), j  s1040 → zW X s1040 1324 [some (va_rf (some b)), some (va_rf (some σ.2.1)), some (va_rf (some s5.2.1)), some (va_rf (some s13.2.1)), some (.int p20), none, none, none, none] []) hw (fun  s1040 hw => ?_) (fun j1041 hj1041 hw => ?_)
          · refine z_goto hX dL_law_1324 (tgt := 2124) rfl ?_
            exact hj39  _ hw
          · refine z_if_eq hX dL_law_1303 (tgt := 1324) rfl (fun c1042 => ?_) (fun c1042 => ?_)
            · have hw := hw.1 c1042
              refine z_sub (ls' := [some (va_rf (some b)), some (va_rf (some σ.2.1)), some (va_rf (some s5.2.1)), some (va_rf (some s13.2.1)), some (.int p20), none, none, none, none]) (zsS (zsS (zsS (zsS (zsS (zsN (zsN (zsN (zsN (zs0)))))))))) ?_
              exact hj1041  _ hw
            · have hw := hw.2 c1042
              refine z_dload hX dL_law_1306 (i := 5) rfl ?_
              refine z_dload hX dL_law_1308 (i := 5) rfl ?_
              refine z_dcmp hX dL_law_1310 ?_
              refine zJ_w (P := fun (j : zS → Prop) => ∀  (s1043 : zS), j  s1043 → zW X s1043 1322 [none, none, none, none, none, none, none, none, none] []) hw (fun  s1043 hw => ?_) (fun j1044 hj1044 hw => ?_)
              · refine z_iconst hX (v := (0 : Int32)) dL_law_1322 (by decide) ?_
                exact z_ireturn hX hR dL_law_1323 (zn_z hw.1) hw.2
              · refine z_if_eq hX dL_law_1311 (tgt := 1322) rfl (fun c1045 => ?_) (fun c1045 => ?_)
                · have hw := hw.1 c1045
                  refine z_sub (ls' := [none, none, none, none, none, none, none, none, none]) (zsN (zsN (zsN (zsN (zsN (zsN (zsN (zsN (zsN (zs0)))))))))) ?_
                  exact hj1044  _ hw
                · have hw := hw.2 c1045
                  refine z_dload hX dL_law_1314 (i := 7) rfl ?_
                  refine z_dload hX dL_law_1316 (i := 7) rfl ?_
                  refine z_dcmp hX dL_law_1318 ?_
                  refine z_if_ne hX dL_law_1319 (tgt := 1324) rfl (fun c1046 => ?_) (fun c1046 => ?_)
                  · have hw := hw.1 c1046
                    refine z_sub (ls' := [some (va_rf (some b)), some (va_rf (some σ.2.1)), some (va_rf (some s5.2.1)), some (va_rf (some s13.2.1)), some (.int p20), none, none, none, none]) (zsS (zsS (zsS (zsS (zsS (zsN (zsN (zsN (zsN (zs0)))))))))) ?_
                    exact hj1041  _ hw
                  · have hw := hw.2 c1046
                    refine z_sub (ls' := [none, none, none, none, none, none, none, none, none]) (zsN (zsN (zsN (zsN (zsN (zsN (zsN (zsN (zsN (zs0)))))))))) ?_
                    exact hj1044  _ hw
        | 23, _, c42 =>
          have c42 : (v36 &&& (63 : Int32)) = (23) := c42
          refine z_tableIn hX dL_law_40 (by rw [c42]; decide) (by rw [c42]; decide) (off := 1287) (by rw [c42]; rfl) (tgt := 1327) rfl ?_
          have hw := hw.2.2.2.2.2.2.2.2.2.2.2.2.2.2.2.2.2.2.2.2.2.2.2.2.1 c42
          refine z_aload_n hX dL_law_1327 rfl (i := 1) rfl ?_
          obtain ⟨a1050, f1051, r1052, m1053, hw⟩ := hw
          refine z_invV hX hd r1052 (ci := 0) rfl rfl m1053 dL_law_1328 (hC 38 _ zm38 _ _ _ _ hw) q745 q746 q747 zh1 q748 q130 zn38 rfl (Nat.le_of_ble_eq_true rfl) (st := []) rfl (zcs8 (Nat.le_of_ble_eq_true rfl)) rfl (zkF (fun v1047 s1048 hw => ?_)) (zout hX hR hTb)
          refine z_f2d hX dL_law_1331 hw.1 ?_
          have hw := hw.2
          refine z_dstore hX dL_law_1332 (i := 5) (Nat.le_of_ble_eq_true rfl) rfl (ls2 := [some (va_rf (some b)), some (va_rf (some σ.2.1)), some (va_rf (some s5.2.1)), some (va_rf (some s13.2.1)), some (.int p20), some (.double (FP.f2d v1047)), none, none, none]) rfl ?_
          refine z_aload_n hX dL_law_1334 rfl (i := 2) rfl ?_
          obtain ⟨a1057, f1058, r1059, m1060, hw⟩ := hw
          refine z_invV hX hd r1059 (ci := 4) rfl rfl m1060 dL_law_1335 (hC 233 _ zm233 _ _ _ _ hw) q2896 q2897 q2898 zh7 q2899 q136 zn233 rfl (Nat.le_of_ble_eq_true rfl) (st := []) rfl (zcs8 (Nat.le_of_ble_eq_true rfl)) rfl (zkF (fun v1054 s1055 hw => ?_)) (zout hX hR hTb)
          refine z_f2d hX dL_law_1338 hw.1 ?_
          have hw := hw.2
          refine z_dstore hX dL_law_1339 (i := 7) (Nat.le_of_ble_eq_true rfl) trivial (ls2 := [some (va_rf (some b)), some (va_rf (some σ.2.1)), some (va_rf (some s5.2.1)), some (va_rf (some s13.2.1)), some (.int p20), some (.double (FP.f2d v1047)), none, some (.double (FP.f2d v1054)), none]) rfl ?_
          refine z_dload hX dL_law_1341 (i := 5) rfl ?_
          refine z_dload hX dL_law_1343 (i := 7) rfl ?_
          refine z_dcmp hX dL_law_1345 ?_
          refine zJ_w (P := fun (j : zS → Prop) => ∀  (s1061 : zS), j  s1061 → zW X s1061 1367 [some (va_rf (some b)), some (va_rf (some σ.2.1)), some (va_rf (some s5.2.1)), some (va_rf (some s13.2.1)), some (.int p20), none, none, none, none] []) hw (fun  s1061 hw => ?_) (fun j1062 hj1062 hw => ?_)
          · refine z_goto hX dL_law_1367 (tgt := 2124) rfl ?_
            exact hj39  _ hw
          · refine z_if_eq hX dL_law_1346 (tgt := 1367) rfl (fun c1063 => ?_) (fun c1063 => ?_)
            · have hw := hw.1 c1063
              refine z_sub (ls' := [some (va_rf (some b)), some (va_rf (some σ.2.1)), some (va_rf (some s5.2.1)), some (va_rf (some s13.2.1)), some (.int p20), none, none, none, none]) (zsS (zsS (zsS (zsS (zsS (zsN (zsN (zsN (zsN (zs0)))))))))) ?_
              exact hj1062  _ hw
            · have hw := hw.2 c1063
              refine z_dload hX dL_law_1349 (i := 5) rfl ?_
              refine z_dload hX dL_law_1351 (i := 5) rfl ?_
              refine z_dcmp hX dL_law_1353 ?_
              refine zJ_w (P := fun (j : zS → Prop) => ∀  (s1064 : zS), j  s1064 → zW X s1064 1365 [none, none, none, none, none, none, none, none, none] []) hw (fun  s1064 hw => ?_) (fun j1065 hj1065 hw => ?_)
              · refine z_iconst hX (v := (0 : Int32)) dL_law_1365 (by decide) ?_
                exact z_ireturn hX hR dL_law_1366 (zn_z hw.1) hw.2
              · refine z_if_eq hX dL_law_1354 (tgt := 1365) rfl (fun c1066 => ?_) (fun c1066 => ?_)
                · have hw := hw.1 c1066
                  refine z_sub (ls' := [none, none, none, none, none, none, none, none, none]) (zsN (zsN (zsN (zsN (zsN (zsN (zsN (zsN (zsN (zs0)))))))))) ?_
                  exact hj1065  _ hw
                · have hw := hw.2 c1066
                  refine z_dload hX dL_law_1357 (i := 7) rfl ?_
                  refine z_dload hX dL_law_1359 (i := 7) rfl ?_
                  refine z_dcmp hX dL_law_1361 ?_
                  refine z_if_ne hX dL_law_1362 (tgt := 1367) rfl (fun c1067 => ?_) (fun c1067 => ?_)
                  · have hw := hw.1 c1067
                    refine z_sub (ls' := [some (va_rf (some b)), some (va_rf (some σ.2.1)), some (va_rf (some s5.2.1)), some (va_rf (some s13.2.1)), some (.int p20), none, none, none, none]) (zsS (zsS (zsS (zsS (zsS (zsN (zsN (zsN (zsN (zs0)))))))))) ?_
                    exact hj1062  _ hw
                  · have hw := hw.2 c1067
                    refine z_sub (ls' := [none, none, none, none, none, none, none, none, none]) (zsN (zsN (zsN (zsN (zsN (zsN (zsN (zsN (zsN (zs0)))))))))) ?_
                    exact hj1065  _ hw
        | 24, _, c42 =>
          have c42 : (v36 &&& (63 : Int32)) = (24) := c42
          refine z_tableIn hX dL_law_40 (by rw [c42]; decide) (by rw [c42]; decide) (off := 1330) (by rw [c42]; rfl) (tgt := 1370) rfl ?_
          have hw := hw.2.2.2.2.2.2.2.2.2.2.2.2.2.2.2.2.2.2.2.2.2.2.2.2.2.1 c42
          refine z_aload_n hX dL_law_1370 rfl (i := 1) rfl ?_
          refine z_aload_n hX dL_law_1371 rfl (i := 0) rfl ?_
          refine z_iload hX dL_law_1372 (i := 4) rfl ?_
          refine z_iconst hX (v := (1 : Int32)) dL_law_1374 (by decide) ?_
          refine z_iadd hX dL_law_1375 ?_
          obtain ⟨a1068, n1069, f1070, r1071, m1072, i1073, hw⟩ := hw
          refine z_iald hX dL_law_1376 r1071 m1072 i1073 ?_
          revert hw
          generalize f1070 (Int32.toNatClampNeg (p20 + (1 : Int32))) = v1074
          intro hw
          refine z_aload_n hX dL_law_1377 rfl (i := 0) rfl ?_
          refine z_iload hX dL_law_1378 (i := 4) rfl ?_
          refine z_iconst hX (v := (2 : Int32)) dL_law_1380 (by decide) ?_
          refine z_iadd hX dL_law_1381 ?_
          obtain ⟨a1076, n1077, f1078, r1079, m1080, i1081, hw⟩ := hw
          refine z_iald hX dL_law_1382 r1079 m1080 i1081 ?_
          revert hw
          generalize f1078 (Int32.toNatClampNeg (p20 + (2 : Int32))) = v1082
          intro hw
          refine z_aload_n hX dL_law_1383 rfl (i := 0) rfl ?_
          refine z_iload hX dL_law_1384 (i := 4) rfl ?_
          refine z_iconst hX (v := (3 : Int32)) dL_law_1386 (by decide) ?_
          refine z_iadd hX dL_law_1387 ?_
          obtain ⟨a1084, n1085, f1086, r1087, m1088, i1089, hw⟩ := hw
          refine z_iald hX dL_law_1388 r1087 m1088 i1089 ?_
          revert hw
          generalize f1086 (Int32.toNatClampNeg (p20 + (3 : Int32))) = v1090
          intro hw
          refine z_aload_n hX dL_law_1389 rfl (i := 3) rfl ?_
          refine z_invSX hX hd dL_law_1390 (hC 12 _ zm12 _ _ _ _ hw) q2065 q2066 zh0 q2067 q129 zn12 rfl (Nat.le_of_ble_eq_true rfl) (st := []) rfl (zcs8 (Nat.le_of_ble_eq_true rfl)) rfl (zkI (fun v1092 s1093 hw => ?_)) (zout hX hR hTb)
          refine z_istore hX dL_law_1393 (i := 5) (Nat.le_of_ble_eq_true rfl) rfl (ls2 := [some (va_rf (some b)), some (va_rf (some σ.2.1)), some (va_rf (some s5.2.1)), some (va_rf (some s13.2.1)), some (.int p20), some (.int v1092), none, none, none]) rfl ?_
          refine z_aload_n hX dL_law_1395 rfl (i := 2) rfl ?_
          refine z_aload_n hX dL_law_1396 rfl (i := 0) rfl ?_
          refine z_iload hX dL_law_1397 (i := 4) rfl ?_
          refine z_iconst hX (v := (1 : Int32)) dL_law_1399 (by decide) ?_
          refine z_iadd hX dL_law_1400 ?_
          obtain ⟨a1095, n1096, f1097, r1098, m1099, i1100, hw⟩ := hw
          refine z_iald hX dL_law_1401 r1098 m1099 i1100 ?_
          revert hw
          generalize f1097 (Int32.toNatClampNeg (p20 + (1 : Int32))) = v1101
          intro hw
          refine z_aload_n hX dL_law_1402 rfl (i := 0) rfl ?_
          refine z_iload hX dL_law_1403 (i := 4) rfl ?_
          refine z_iconst hX (v := (2 : Int32)) dL_law_1405 (by decide) ?_
          refine z_iadd hX dL_law_1406 ?_
          obtain ⟨a1103, n1104, f1105, r1106, m1107, i1108, hw⟩ := hw
          refine z_iald hX dL_law_1407 r1106 m1107 i1108 ?_
          revert hw
          generalize f1105 (Int32.toNatClampNeg (p20 + (2 : Int32))) = v1109
          intro hw
          refine z_aload_n hX dL_law_1408 rfl (i := 0) rfl ?_
          refine z_iload hX dL_law_1409 (i := 4) rfl ?_
          refine z_iconst hX (v := (3 : Int32)) dL_law_1411 (by decide) ?_
          refine z_iadd hX dL_law_1412 ?_
          obtain ⟨a1111, n1112, f1113, r1114, m1115, i1116, hw⟩ := hw
          refine z_iald hX dL_law_1413 r1114 m1115 i1116 ?_
          revert hw
          generalize f1113 (Int32.toNatClampNeg (p20 + (3 : Int32))) = v1117
          intro hw
          obtain ⟨a1122, f1123, r1124, m1125, hw⟩ := hw
          refine z_invV hX hd r1124 (ci := 4) rfl rfl m1125 dL_law_1414 (hC 234 _ zm234 _ _ _ _ hw) q2900 q2901 q2902 zh7 q2903 q136 zn234 rfl (Nat.le_of_ble_eq_true rfl) (st := []) rfl (zcs8 (Nat.le_of_ble_eq_true rfl)) rfl (zkI (fun v1119 s1120 hw => ?_)) (zout hX hR hTb)
          refine z_istore hX dL_law_1417 (i := 6) (Nat.le_of_ble_eq_true rfl) rfl (ls2 := [some (va_rf (some b)), some (va_rf (some σ.2.1)), some (va_rf (some s5.2.1)), some (va_rf (some s13.2.1)), some (.int p20), some (.int v1092), some (.int v1119), none, none]) rfl ?_
          refine z_aload_n hX dL_law_1419 rfl (i := 2) rfl ?_
          obtain ⟨a1129, f1130, r1131, m1132, hw⟩ := hw
          refine z_invV hX hd r1131 (ci := 4) rfl rfl m1132 dL_law_1420 (hC 156 _ zm156 _ _ _ _ hw) q2593 q2594 q2595 zh7 q2596 q136 zn156 rfl (Nat.le_of_ble_eq_true rfl) (st := []) rfl (zcs8 (Nat.le_of_ble_eq_true rfl)) rfl (zkI (fun v1126 s1127 hw => ?_)) (zout hX hR hTb)
          refine z_iload hX dL_law_1423 (i := 5) rfl ?_
          refine z_icmp_eq hX dL_law_1425 (tgt := 1430) rfl (fun c1133 => ?_) (fun c1133 => ?_)
          · have hw := hw.1 c1133
            refine z_iload hX dL_law_1430 (i := 5) rfl ?_
            refine zJ_w (P := fun (j : zS → Prop) => ∀  (s1134 : zS), j  s1134 → zW X s1134 1447 [some (va_rf (some b)), some (va_rf (some σ.2.1)), some (va_rf (some s5.2.1)), some (va_rf (some s13.2.1)), some (.int p20), none, none, none, none] []) hw (fun  s1134 hw => ?_) (fun j1135 hj1135 hw => ?_)
            · refine z_goto hX dL_law_1447 (tgt := 2124) rfl ?_
              exact hj39  _ hw
            · refine z_if_ne hX dL_law_1432 (tgt := 1447) rfl (fun c1136 => ?_) (fun c1136 => ?_)
              · have hw := hw.1 c1136
                refine z_sub (ls' := [some (va_rf (some b)), some (va_rf (some σ.2.1)), some (va_rf (some s5.2.1)), some (va_rf (some s13.2.1)), some (.int p20), none, none, none, none]) (zsS (zsS (zsS (zsS (zsS (zsN (zsN (zsN (zsN (zs0)))))))))) ?_
                exact hj1135  _ hw
              · have hw := hw.2 c1136
                refine z_aload_n hX dL_law_1435 rfl (i := 3) rfl ?_
                refine z_iconst hX (v := (0 : Int32)) dL_law_1436 (by decide) ?_
                obtain ⟨a1137, n1138, f1139, r1140, m1141, i1142, hw⟩ := hw
                refine z_lald hX dL_law_1437 r1140 m1141 i1142 ?_
                revert hw
                generalize f1139 (Int32.toNatClampNeg (0 : Int32)) = v1143
                intro hw
                refine z_iload hX dL_law_1438 (i := 6) rfl ?_
                refine z_i2l hX dL_law_1440 ?_
                refine z_lcmp hX dL_law_1441 ?_
                refine z_if_eq hX dL_law_1442 (tgt := 1447) rfl (fun c1145 => ?_) (fun c1145 => ?_)
                · have hw := hw.1 c1145
                  refine z_sub (ls' := [some (va_rf (some b)), some (va_rf (some σ.2.1)), some (va_rf (some s5.2.1)), some (va_rf (some s13.2.1)), some (.int p20), none, none, none, none]) (zsS (zsS (zsS (zsS (zsS (zsN (zsN (zsN (zsN (zs0)))))))))) ?_
                  exact hj1135  _ hw
                · have hw := hw.2 c1145
                  refine z_iconst hX (v := (0 : Int32)) dL_law_1445 (by decide) ?_
                  exact z_ireturn hX hR dL_law_1446 (zn_z hw.1) hw.2
          · have hw := hw.2 c1133
            refine z_iconst hX (v := (0 : Int32)) dL_law_1428 (by decide) ?_
            exact z_ireturn hX hR dL_law_1429 (zn_z hw.1) hw.2
        | 25, _, c42 =>
          have c42 : (v36 &&& (63 : Int32)) = (25) := c42
          refine z_tableIn hX dL_law_40 (by rw [c42]; decide) (by rw [c42]; decide) (off := 1410) (by rw [c42]; rfl) (tgt := 1450) rfl ?_
          have hw := hw.2.2.2.2.2.2.2.2.2.2.2.2.2.2.2.2.2.2.2.2.2.2.2.2.2.2.1 c42
          refine z_aload_n hX dL_law_1450 rfl (i := 1) rfl ?_
          refine z_aload_n hX dL_law_1451 rfl (i := 0) rfl ?_
          refine z_iload hX dL_law_1452 (i := 4) rfl ?_
          refine z_iconst hX (v := (1 : Int32)) dL_law_1454 (by decide) ?_
          refine z_iadd hX dL_law_1455 ?_
          obtain ⟨a1146, n1147, f1148, r1149, m1150, i1151, hw⟩ := hw
          refine z_iald hX dL_law_1456 r1149 m1150 i1151 ?_
          revert hw
          generalize f1148 (Int32.toNatClampNeg (p20 + (1 : Int32))) = v1152
          intro hw
          refine z_aload_n hX dL_law_1457 rfl (i := 3) rfl ?_
          refine z_invSX hX hd dL_law_1458 (hC 13 _ zm13 _ _ _ _ hw) q2112 q2113 zh0 q2114 q129 zn13 rfl (Nat.le_of_ble_eq_true rfl) (st := []) rfl (zcs8 (Nat.le_of_ble_eq_true rfl)) rfl (zkI (fun v1154 s1155 hw => ?_)) (zout hX hR hTb)
          refine z_istore hX dL_law_1461 (i := 5) (Nat.le_of_ble_eq_true rfl) rfl (ls2 := [some (va_rf (some b)), some (va_rf (some σ.2.1)), some (va_rf (some s5.2.1)), some (va_rf (some s13.2.1)), some (.int p20), some (.int v1154), none, none, none]) rfl ?_
          refine z_aload_n hX dL_law_1463 rfl (i := 2) rfl ?_
          refine z_aload_n hX dL_law_1464 rfl (i := 0) rfl ?_
          refine z_iload hX dL_law_1465 (i := 4) rfl ?_
          refine z_iconst hX (v := (1 : Int32)) dL_law_1467 (by decide) ?_
          refine z_iadd hX dL_law_1468 ?_
          obtain ⟨a1157, n1158, f1159, r1160, m1161, i1162, hw⟩ := hw
          refine z_iald hX dL_law_1469 r1160 m1161 i1162 ?_
          revert hw
          generalize f1159 (Int32.toNatClampNeg (p20 + (1 : Int32))) = v1163
          intro hw
          obtain ⟨a1168, f1169, r1170, m1171, hw⟩ := hw
          refine z_invV hX hd r1170 (ci := 4) rfl rfl m1171 dL_law_1470 (hC 242 _ zm242 _ _ _ _ hw) q2930 q2931 q2932 zh7 q2933 q136 zn242 rfl (Nat.le_of_ble_eq_true rfl) (st := []) rfl (zcs8 (Nat.le_of_ble_eq_true rfl)) rfl (zkI (fun v1165 s1166 hw => ?_)) (zout hX hR hTb)
          refine z_istore hX dL_law_1473 (i := 6) (Nat.le_of_ble_eq_true rfl) rfl (ls2 := [some (va_rf (some b)), some (va_rf (some σ.2.1)), some (va_rf (some s5.2.1)), some (va_rf (some s13.2.1)), some (.int p20), some (.int v1154), some (.int v1165), none, none]) rfl ?_
          refine z_aload_n hX dL_law_1475 rfl (i := 2) rfl ?_
          obtain ⟨a1175, f1176, r1177, m1178, hw⟩ := hw
          refine z_invV hX hd r1177 (ci := 4) rfl rfl m1178 dL_law_1476 (hC 156 _ zm156 _ _ _ _ hw) q2593 q2594 q2595 zh7 q2596 q136 zn156 rfl (Nat.le_of_ble_eq_true rfl) (st := []) rfl (zcs8 (Nat.le_of_ble_eq_true rfl)) rfl (zkI (fun v1172 s1173 hw => ?_)) (zout hX hR hTb)
          refine z_iload hX dL_law_1479 (i := 5) rfl ?_
          refine z_icmp_eq hX dL_law_1481 (tgt := 1486) rfl (fun c1179 => ?_) (fun c1179 => ?_)
          · have hw := hw.1 c1179
            refine z_iload hX dL_law_1486 (i := 5) rfl ?_
            refine zJ_w (P := fun (j : zS → Prop) => ∀  (s1180 : zS), j  s1180 → zW X s1180 1503 [some (va_rf (some b)), some (va_rf (some σ.2.1)), some (va_rf (some s5.2.1)), some (va_rf (some s13.2.1)), some (.int p20), none, none, none, none] []) hw (fun  s1180 hw => ?_) (fun j1181 hj1181 hw => ?_)
            · refine z_goto hX dL_law_1503 (tgt := 2124) rfl ?_
              exact hj39  _ hw
            · refine z_if_ne hX dL_law_1488 (tgt := 1503) rfl (fun c1182 => ?_) (fun c1182 => ?_)
              · have hw := hw.1 c1182
                refine z_sub (ls' := [some (va_rf (some b)), some (va_rf (some σ.2.1)), some (va_rf (some s5.2.1)), some (va_rf (some s13.2.1)), some (.int p20), none, none, none, none]) (zsS (zsS (zsS (zsS (zsS (zsN (zsN (zsN (zsN (zs0)))))))))) ?_
                exact hj1181  _ hw
              · have hw := hw.2 c1182
                refine z_aload_n hX dL_law_1491 rfl (i := 3) rfl ?_
                refine z_iconst hX (v := (0 : Int32)) dL_law_1492 (by decide) ?_
                obtain ⟨a1183, n1184, f1185, r1186, m1187, i1188, hw⟩ := hw
                refine z_lald hX dL_law_1493 r1186 m1187 i1188 ?_
                revert hw
                generalize f1185 (Int32.toNatClampNeg (0 : Int32)) = v1189
                intro hw
                refine z_iload hX dL_law_1494 (i := 6) rfl ?_
                refine z_i2l hX dL_law_1496 ?_
                refine z_lcmp hX dL_law_1497 ?_
                refine z_if_eq hX dL_law_1498 (tgt := 1503) rfl (fun c1191 => ?_) (fun c1191 => ?_)
                · have hw := hw.1 c1191
                  refine z_sub (ls' := [some (va_rf (some b)), some (va_rf (some σ.2.1)), some (va_rf (some s5.2.1)), some (va_rf (some s13.2.1)), some (.int p20), none, none, none, none]) (zsS (zsS (zsS (zsS (zsS (zsN (zsN (zsN (zsN (zs0)))))))))) ?_
                  exact hj1181  _ hw
                · have hw := hw.2 c1191
                  refine z_iconst hX (v := (0 : Int32)) dL_law_1501 (by decide) ?_
                  exact z_ireturn hX hR dL_law_1502 (zn_z hw.1) hw.2
          · have hw := hw.2 c1179
            refine z_iconst hX (v := (0 : Int32)) dL_law_1484 (by decide) ?_
            exact z_ireturn hX hR dL_law_1485 (zn_z hw.1) hw.2
        | 26, _, c42 =>
          have c42 : (v36 &&& (63 : Int32)) = (26) := c42
          refine z_tableIn hX dL_law_40 (by rw [c42]; decide) (by rw [c42]; decide) (off := 1466) (by rw [c42]; rfl) (tgt := 1506) rfl ?_
          have hw := hw.2.2.2.2.2.2.2.2.2.2.2.2.2.2.2.2.2.2.2.2.2.2.2.2.2.2.2.1 c42
          refine z_aload_n hX dL_law_1506 rfl (i := 1) rfl ?_
          refine z_aload_n hX dL_law_1507 rfl (i := 0) rfl ?_
          refine z_iload hX dL_law_1508 (i := 4) rfl ?_
          refine z_iconst hX (v := (1 : Int32)) dL_law_1510 (by decide) ?_
          refine z_iadd hX dL_law_1511 ?_
          obtain ⟨a1192, n1193, f1194, r1195, m1196, i1197, hw⟩ := hw
          refine z_iald hX dL_law_1512 r1195 m1196 i1197 ?_
          revert hw
          generalize f1194 (Int32.toNatClampNeg (p20 + (1 : Int32))) = v1198
          intro hw
          refine z_aload_n hX dL_law_1513 rfl (i := 3) rfl ?_
          refine z_invSX hX hd dL_law_1514 (hC 14 _ zm14 _ _ _ _ hw) q2120 q2121 zh0 q2122 q129 zn14 rfl (Nat.le_of_ble_eq_true rfl) (st := []) rfl (zcs8 (Nat.le_of_ble_eq_true rfl)) rfl (zkI (fun v1200 s1201 hw => ?_)) (zout hX hR hTb)
          refine z_istore hX dL_law_1517 (i := 5) (Nat.le_of_ble_eq_true rfl) rfl (ls2 := [some (va_rf (some b)), some (va_rf (some σ.2.1)), some (va_rf (some s5.2.1)), some (va_rf (some s13.2.1)), some (.int p20), some (.int v1200), none, none, none]) rfl ?_
          refine z_aload_n hX dL_law_1519 rfl (i := 2) rfl ?_
          refine z_aload_n hX dL_law_1520 rfl (i := 0) rfl ?_
          refine z_iload hX dL_law_1521 (i := 4) rfl ?_
          refine z_iconst hX (v := (1 : Int32)) dL_law_1523 (by decide) ?_
          refine z_iadd hX dL_law_1524 ?_
          obtain ⟨a1203, n1204, f1205, r1206, m1207, i1208, hw⟩ := hw
          refine z_iald hX dL_law_1525 r1206 m1207 i1208 ?_
          revert hw
          generalize f1205 (Int32.toNatClampNeg (p20 + (1 : Int32))) = v1209
          intro hw
          obtain ⟨a1214, f1215, r1216, m1217, hw⟩ := hw
          refine z_invV hX hd r1216 (ci := 4) rfl rfl m1217 dL_law_1526 (hC 243 _ zm243 _ _ _ _ hw) q2934 q2935 q2936 zh7 q2937 q136 zn243 rfl (Nat.le_of_ble_eq_true rfl) (st := []) rfl (zcs8 (Nat.le_of_ble_eq_true rfl)) rfl (zkI (fun v1211 s1212 hw => ?_)) (zout hX hR hTb)
          refine z_istore hX dL_law_1529 (i := 6) (Nat.le_of_ble_eq_true rfl) rfl (ls2 := [some (va_rf (some b)), some (va_rf (some σ.2.1)), some (va_rf (some s5.2.1)), some (va_rf (some s13.2.1)), some (.int p20), some (.int v1200), some (.int v1211), none, none]) rfl ?_
          refine z_aload_n hX dL_law_1531 rfl (i := 2) rfl ?_
          obtain ⟨a1221, f1222, r1223, m1224, hw⟩ := hw
          refine z_invV hX hd r1223 (ci := 4) rfl rfl m1224 dL_law_1532 (hC 156 _ zm156 _ _ _ _ hw) q2593 q2594 q2595 zh7 q2596 q136 zn156 rfl (Nat.le_of_ble_eq_true rfl) (st := []) rfl (zcs8 (Nat.le_of_ble_eq_true rfl)) rfl (zkI (fun v1218 s1219 hw => ?_)) (zout hX hR hTb)
          refine z_iload hX dL_law_1535 (i := 5) rfl ?_
          refine z_icmp_eq hX dL_law_1537 (tgt := 1542) rfl (fun c1225 => ?_) (fun c1225 => ?_)
          · have hw := hw.1 c1225
            refine z_iload hX dL_law_1542 (i := 5) rfl ?_
            refine zJ_w (P := fun (j : zS → Prop) => ∀  (s1226 : zS), j  s1226 → zW X s1226 1559 [some (va_rf (some b)), some (va_rf (some σ.2.1)), some (va_rf (some s5.2.1)), some (va_rf (some s13.2.1)), some (.int p20), none, none, none, none] []) hw (fun  s1226 hw => ?_) (fun j1227 hj1227 hw => ?_)
            · refine z_goto hX dL_law_1559 (tgt := 2124) rfl ?_
              exact hj39  _ hw
            · refine z_if_ne hX dL_law_1544 (tgt := 1559) rfl (fun c1228 => ?_) (fun c1228 => ?_)
              · have hw := hw.1 c1228
                refine z_sub (ls' := [some (va_rf (some b)), some (va_rf (some σ.2.1)), some (va_rf (some s5.2.1)), some (va_rf (some s13.2.1)), some (.int p20), none, none, none, none]) (zsS (zsS (zsS (zsS (zsS (zsN (zsN (zsN (zsN (zs0)))))))))) ?_
                exact hj1227  _ hw
              · have hw := hw.2 c1228
                refine z_aload_n hX dL_law_1547 rfl (i := 3) rfl ?_
                refine z_iconst hX (v := (0 : Int32)) dL_law_1548 (by decide) ?_
                obtain ⟨a1229, n1230, f1231, r1232, m1233, i1234, hw⟩ := hw
                refine z_lald hX dL_law_1549 r1232 m1233 i1234 ?_
                revert hw
                generalize f1231 (Int32.toNatClampNeg (0 : Int32)) = v1235
                intro hw
                refine z_iload hX dL_law_1550 (i := 6) rfl ?_
                refine z_i2l hX dL_law_1552 ?_
                refine z_lcmp hX dL_law_1553 ?_
                refine z_if_eq hX dL_law_1554 (tgt := 1559) rfl (fun c1237 => ?_) (fun c1237 => ?_)
                · have hw := hw.1 c1237
                  refine z_sub (ls' := [some (va_rf (some b)), some (va_rf (some σ.2.1)), some (va_rf (some s5.2.1)), some (va_rf (some s13.2.1)), some (.int p20), none, none, none, none]) (zsS (zsS (zsS (zsS (zsS (zsN (zsN (zsN (zsN (zs0)))))))))) ?_
                  exact hj1227  _ hw
                · have hw := hw.2 c1237
                  refine z_iconst hX (v := (0 : Int32)) dL_law_1557 (by decide) ?_
                  exact z_ireturn hX hR dL_law_1558 (zn_z hw.1) hw.2
          · have hw := hw.2 c1225
            refine z_iconst hX (v := (0 : Int32)) dL_law_1540 (by decide) ?_
            exact z_ireturn hX hR dL_law_1541 (zn_z hw.1) hw.2
        | 27, _, c42 =>
          have c42 : (v36 &&& (63 : Int32)) = (27) := c42
          refine z_tableIn hX dL_law_40 (by rw [c42]; decide) (by rw [c42]; decide) (off := 1522) (by rw [c42]; rfl) (tgt := 1562) rfl ?_
          have hw := hw.2.2.2.2.2.2.2.2.2.2.2.2.2.2.2.2.2.2.2.2.2.2.2.2.2.2.2.2.1 c42
          refine z_aload_n hX dL_law_1562 rfl (i := 1) rfl ?_
          refine z_aload_n hX dL_law_1563 rfl (i := 0) rfl ?_
          refine z_iload hX dL_law_1564 (i := 4) rfl ?_
          refine z_iconst hX (v := (1 : Int32)) dL_law_1566 (by decide) ?_
          refine z_iadd hX dL_law_1567 ?_
          obtain ⟨a1238, n1239, f1240, r1241, m1242, i1243, hw⟩ := hw
          refine z_iald hX dL_law_1568 r1241 m1242 i1243 ?_
          revert hw
          generalize f1240 (Int32.toNatClampNeg (p20 + (1 : Int32))) = v1244
          intro hw
          refine zJ_w (P := fun (j : Int32 → zS → Prop) => ∀ (p1246 : Int32) (s1247 : zS), j p1246 s1247 → zW X s1247 1577 [some (va_rf (some b)), some (va_rf (some σ.2.1)), some (va_rf (some s5.2.1)), some (va_rf (some s13.2.1)), some (.int p20), none, none, none, none] [.int p1246, va_rf (some σ.2.1)]) hw (fun p1246 s1247 hw => ?_) (fun j1248 hj1248 hw => ?_)
          · obtain ⟨a1252, f1253, r1254, m1255, hw⟩ := hw
            refine z_invV hX hd r1254 (ci := 0) rfl rfl m1255 dL_law_1577 (hC 39 _ zm39 _ _ _ _ hw) q754 q755 q756 zh1 q757 q130 zn39 rfl (Nat.le_of_ble_eq_true rfl) (st := []) rfl (zcs8 (Nat.le_of_ble_eq_true rfl)) rfl (zkI (fun v1249 s1250 hw => ?_)) (zout hX hR hTb)
            refine z_aload_n hX dL_law_1580 rfl (i := 2) rfl ?_
            refine z_aload_n hX dL_law_1581 rfl (i := 0) rfl ?_
            refine z_iload hX dL_law_1582 (i := 4) rfl ?_
            refine z_iconst hX (v := (1 : Int32)) dL_law_1584 (by decide) ?_
            refine z_iadd hX dL_law_1585 ?_
            obtain ⟨a1256, n1257, f1258, r1259, m1260, i1261, hw⟩ := hw
            refine z_iald hX dL_law_1586 r1259 m1260 i1261 ?_
            revert hw
            generalize f1258 (Int32.toNatClampNeg (p20 + (1 : Int32))) = v1262
            intro hw
            refine zJ_w (P := fun (j : Int32 → zS → Prop) => ∀ (p1264 : Int32) (s1265 : zS), j p1264 s1265 → zW X s1265 1595 [some (va_rf (some b)), some (va_rf (some σ.2.1)), some (va_rf (some s5.2.1)), some (va_rf (some s13.2.1)), some (.int p20), none, none, none, none] [.int p1264, va_rf (some s5.2.1), .int v1249]) hw (fun p1264 s1265 hw => ?_) (fun j1266 hj1266 hw => ?_)
            · obtain ⟨a1270, f1271, r1272, m1273, hw⟩ := hw
              refine z_invV hX hd r1272 (ci := 4) rfl rfl m1273 dL_law_1595 (hC 244 _ zm244 _ _ _ _ hw) q2938 q2939 q2940 zh7 q2941 q136 zn244 rfl (Nat.le_of_ble_eq_true rfl) (st := [.int v1249]) rfl (zcs8 (Nat.le_of_ble_eq_true rfl)) rfl (zkI (fun v1267 s1268 hw => ?_)) (zout hX hR hTb)
              refine z_icmp_eq hX dL_law_1598 (tgt := 2124) rfl (fun c1274 => ?_) (fun c1274 => ?_)
              · have hw := hw.1 c1274
                exact hj39  _ hw
              · have hw := hw.2 c1274
                refine z_iconst hX (v := (0 : Int32)) dL_law_1601 (by decide) ?_
                exact z_ireturn hX hR dL_law_1602 (zn_z hw.1) hw.2
            · refine z_if_eq hX dL_law_1587 (tgt := 1594) rfl (fun c1275 => ?_) (fun c1275 => ?_)
              · have hw := hw.1 c1275
                refine z_iconst hX (v := (0 : Int32)) dL_law_1594 (by decide) ?_
                exact hj1266 _ _ hw
              · have hw := hw.2 c1275
                refine z_iconst hX (v := (1 : Int32)) dL_law_1590 (by decide) ?_
                refine z_goto hX dL_law_1591 (tgt := 1595) rfl ?_
                exact hj1266 _ _ hw
          · refine z_if_eq hX dL_law_1569 (tgt := 1576) rfl (fun c1276 => ?_) (fun c1276 => ?_)
            · have hw := hw.1 c1276
              refine z_iconst hX (v := (0 : Int32)) dL_law_1576 (by decide) ?_
              exact hj1248 _ _ hw
            · have hw := hw.2 c1276
              refine z_iconst hX (v := (1 : Int32)) dL_law_1572 (by decide) ?_
              refine z_goto hX dL_law_1573 (tgt := 1577) rfl ?_
              exact hj1248 _ _ hw
        | 28, _, c42 =>
          have c42 : (v36 &&& (63 : Int32)) = (28) := c42
          refine z_tableIn hX dL_law_40 (by rw [c42]; decide) (by rw [c42]; decide) (off := 1563) (by rw [c42]; rfl) (tgt := 1603) rfl ?_
          have hw := hw.2.2.2.2.2.2.2.2.2.2.2.2.2.2.2.2.2.2.2.2.2.2.2.2.2.2.2.2.2.1 c42
          refine z_aload_n hX dL_law_1603 rfl (i := 1) rfl ?_
          refine z_aload_n hX dL_law_1604 rfl (i := 0) rfl ?_
          refine z_iload hX dL_law_1605 (i := 4) rfl ?_
          refine z_iconst hX (v := (1 : Int32)) dL_law_1607 (by decide) ?_
          refine z_iadd hX dL_law_1608 ?_
          obtain ⟨a1277, n1278, f1279, r1280, m1281, i1282, hw⟩ := hw
          refine z_iald hX dL_law_1609 r1280 m1281 i1282 ?_
          revert hw
          generalize f1279 (Int32.toNatClampNeg (p20 + (1 : Int32))) = v1283
          intro hw
          refine z_aload_n hX dL_law_1610 rfl (i := 3) rfl ?_
          refine z_invSX hX hd dL_law_1611 (hC 15 _ zm15 _ _ _ _ hw) q2127 q2128 zh0 q2129 q129 zn15 rfl (Nat.le_of_ble_eq_true rfl) (st := []) rfl (zcs8 (Nat.le_of_ble_eq_true rfl)) rfl (zkI (fun v1285 s1286 hw => ?_)) (zout hX hR hTb)
          refine z_istore hX dL_law_1614 (i := 5) (Nat.le_of_ble_eq_true rfl) rfl (ls2 := [some (va_rf (some b)), some (va_rf (some σ.2.1)), some (va_rf (some s5.2.1)), some (va_rf (some s13.2.1)), some (.int p20), some (.int v1285), none, none, none]) rfl ?_
          refine z_aload_n hX dL_law_1616 rfl (i := 2) rfl ?_
          refine z_aload_n hX dL_law_1617 rfl (i := 0) rfl ?_
          refine z_iload hX dL_law_1618 (i := 4) rfl ?_
          refine z_iconst hX (v := (1 : Int32)) dL_law_1620 (by decide) ?_
          refine z_iadd hX dL_law_1621 ?_
          obtain ⟨a1288, n1289, f1290, r1291, m1292, i1293, hw⟩ := hw
          refine z_iald hX dL_law_1622 r1291 m1292 i1293 ?_
          revert hw
          generalize f1290 (Int32.toNatClampNeg (p20 + (1 : Int32))) = v1294
          intro hw
          obtain ⟨a1299, f1300, r1301, m1302, hw⟩ := hw
          refine z_invV hX hd r1301 (ci := 4) rfl rfl m1302 dL_law_1623 (hC 245 _ zm245 _ _ _ _ hw) q2942 q2943 q2944 zh7 q2945 q136 zn245 rfl (Nat.le_of_ble_eq_true rfl) (st := []) rfl (zcs8 (Nat.le_of_ble_eq_true rfl)) rfl (zkI (fun v1296 s1297 hw => ?_)) (zout hX hR hTb)
          refine z_istore hX dL_law_1626 (i := 6) (Nat.le_of_ble_eq_true rfl) rfl (ls2 := [some (va_rf (some b)), some (va_rf (some σ.2.1)), some (va_rf (some s5.2.1)), some (va_rf (some s13.2.1)), some (.int p20), some (.int v1285), some (.int v1296), none, none]) rfl ?_
          refine z_aload_n hX dL_law_1628 rfl (i := 2) rfl ?_
          obtain ⟨a1306, f1307, r1308, m1309, hw⟩ := hw
          refine z_invV hX hd r1308 (ci := 4) rfl rfl m1309 dL_law_1629 (hC 156 _ zm156 _ _ _ _ hw) q2593 q2594 q2595 zh7 q2596 q136 zn156 rfl (Nat.le_of_ble_eq_true rfl) (st := []) rfl (zcs8 (Nat.le_of_ble_eq_true rfl)) rfl (zkI (fun v1303 s1304 hw => ?_)) (zout hX hR hTb)
          refine z_iload hX dL_law_1632 (i := 5) rfl ?_
          refine z_icmp_eq hX dL_law_1634 (tgt := 1639) rfl (fun c1310 => ?_) (fun c1310 => ?_)
          · have hw := hw.1 c1310
            refine z_iload hX dL_law_1639 (i := 5) rfl ?_
            refine zJ_w (P := fun (j : zS → Prop) => ∀  (s1311 : zS), j  s1311 → zW X s1311 1656 [some (va_rf (some b)), some (va_rf (some σ.2.1)), some (va_rf (some s5.2.1)), some (va_rf (some s13.2.1)), some (.int p20), none, none, none, none] []) hw (fun  s1311 hw => ?_) (fun j1312 hj1312 hw => ?_)
            · refine z_goto hX dL_law_1656 (tgt := 2124) rfl ?_
              exact hj39  _ hw
            · refine z_if_ne hX dL_law_1641 (tgt := 1656) rfl (fun c1313 => ?_) (fun c1313 => ?_)
              · have hw := hw.1 c1313
                refine z_sub (ls' := [some (va_rf (some b)), some (va_rf (some σ.2.1)), some (va_rf (some s5.2.1)), some (va_rf (some s13.2.1)), some (.int p20), none, none, none, none]) (zsS (zsS (zsS (zsS (zsS (zsN (zsN (zsN (zsN (zs0)))))))))) ?_
                exact hj1312  _ hw
              · have hw := hw.2 c1313
                refine z_aload_n hX dL_law_1644 rfl (i := 3) rfl ?_
                refine z_iconst hX (v := (0 : Int32)) dL_law_1645 (by decide) ?_
                obtain ⟨a1314, n1315, f1316, r1317, m1318, i1319, hw⟩ := hw
                refine z_lald hX dL_law_1646 r1317 m1318 i1319 ?_
                revert hw
                generalize f1316 (Int32.toNatClampNeg (0 : Int32)) = v1320
                intro hw
                refine z_iload hX dL_law_1647 (i := 6) rfl ?_
                refine z_i2l hX dL_law_1649 ?_
                refine z_lcmp hX dL_law_1650 ?_
                refine z_if_eq hX dL_law_1651 (tgt := 1656) rfl (fun c1322 => ?_) (fun c1322 => ?_)
                · have hw := hw.1 c1322
                  refine z_sub (ls' := [some (va_rf (some b)), some (va_rf (some σ.2.1)), some (va_rf (some s5.2.1)), some (va_rf (some s13.2.1)), some (.int p20), none, none, none, none]) (zsS (zsS (zsS (zsS (zsS (zsN (zsN (zsN (zsN (zs0)))))))))) ?_
                  exact hj1312  _ hw
                · have hw := hw.2 c1322
                  refine z_iconst hX (v := (0 : Int32)) dL_law_1654 (by decide) ?_
                  exact z_ireturn hX hR dL_law_1655 (zn_z hw.1) hw.2
          · have hw := hw.2 c1310
            refine z_iconst hX (v := (0 : Int32)) dL_law_1637 (by decide) ?_
            exact z_ireturn hX hR dL_law_1638 (zn_z hw.1) hw.2
        | 29, _, c42 =>
          have c42 : (v36 &&& (63 : Int32)) = (29) := c42
          refine z_tableIn hX dL_law_40 (by rw [c42]; decide) (by rw [c42]; decide) (off := 1619) (by rw [c42]; rfl) (tgt := 1659) rfl ?_
          have hw := hw.2.2.2.2.2.2.2.2.2.2.2.2.2.2.2.2.2.2.2.2.2.2.2.2.2.2.2.2.2.2.1 c42
          refine z_aload_n hX dL_law_1659 rfl (i := 1) rfl ?_
          refine z_aload_n hX dL_law_1660 rfl (i := 0) rfl ?_
          refine z_iload hX dL_law_1661 (i := 4) rfl ?_
          refine z_iconst hX (v := (1 : Int32)) dL_law_1663 (by decide) ?_
          refine z_iadd hX dL_law_1664 ?_
          obtain ⟨a1323, n1324, f1325, r1326, m1327, i1328, hw⟩ := hw
          refine z_iald hX dL_law_1665 r1326 m1327 i1328 ?_
          revert hw
          generalize f1325 (Int32.toNatClampNeg (p20 + (1 : Int32))) = v1329
          intro hw
          refine z_aload_n hX dL_law_1666 rfl (i := 3) rfl ?_
          refine z_invSX hX hd dL_law_1667 (hC 16 _ zm16 _ _ _ _ hw) q2140 q2141 zh0 q2142 q129 zn16 rfl (Nat.le_of_ble_eq_true rfl) (st := []) rfl (zcs8 (Nat.le_of_ble_eq_true rfl)) rfl (zkI (fun v1331 s1332 hw => ?_)) (zout hX hR hTb)
          refine z_istore hX dL_law_1670 (i := 5) (Nat.le_of_ble_eq_true rfl) rfl (ls2 := [some (va_rf (some b)), some (va_rf (some σ.2.1)), some (va_rf (some s5.2.1)), some (va_rf (some s13.2.1)), some (.int p20), some (.int v1331), none, none, none]) rfl ?_
          refine z_aload_n hX dL_law_1672 rfl (i := 2) rfl ?_
          refine z_aload_n hX dL_law_1673 rfl (i := 0) rfl ?_
          refine z_iload hX dL_law_1674 (i := 4) rfl ?_
          refine z_iconst hX (v := (1 : Int32)) dL_law_1676 (by decide) ?_
          refine z_iadd hX dL_law_1677 ?_
          obtain ⟨a1334, n1335, f1336, r1337, m1338, i1339, hw⟩ := hw
          refine z_iald hX dL_law_1678 r1337 m1338 i1339 ?_
          revert hw
          generalize f1336 (Int32.toNatClampNeg (p20 + (1 : Int32))) = v1340
          intro hw
          obtain ⟨a1345, f1346, r1347, m1348, hw⟩ := hw
          refine z_invV hX hd r1347 (ci := 4) rfl rfl m1348 dL_law_1679 (hC 247 _ zm247 _ _ _ _ hw) q2950 q2951 q2952 zh7 q2953 q136 zn247 rfl (Nat.le_of_ble_eq_true rfl) (st := []) rfl (zcs8 (Nat.le_of_ble_eq_true rfl)) rfl (zkI (fun v1342 s1343 hw => ?_)) (zout hX hR hTb)
          refine z_istore hX dL_law_1682 (i := 6) (Nat.le_of_ble_eq_true rfl) rfl (ls2 := [some (va_rf (some b)), some (va_rf (some σ.2.1)), some (va_rf (some s5.2.1)), some (va_rf (some s13.2.1)), some (.int p20), some (.int v1331), some (.int v1342), none, none]) rfl ?_
          refine z_aload_n hX dL_law_1684 rfl (i := 2) rfl ?_
          obtain ⟨a1352, f1353, r1354, m1355, hw⟩ := hw
          refine z_invV hX hd r1354 (ci := 4) rfl rfl m1355 dL_law_1685 (hC 156 _ zm156 _ _ _ _ hw) q2593 q2594 q2595 zh7 q2596 q136 zn156 rfl (Nat.le_of_ble_eq_true rfl) (st := []) rfl (zcs8 (Nat.le_of_ble_eq_true rfl)) rfl (zkI (fun v1349 s1350 hw => ?_)) (zout hX hR hTb)
          refine z_iload hX dL_law_1688 (i := 5) rfl ?_
          refine z_icmp_eq hX dL_law_1690 (tgt := 1695) rfl (fun c1356 => ?_) (fun c1356 => ?_)
          · have hw := hw.1 c1356
            refine z_iload hX dL_law_1695 (i := 5) rfl ?_
            refine zJ_w (P := fun (j : zS → Prop) => ∀  (s1357 : zS), j  s1357 → zW X s1357 1712 [some (va_rf (some b)), some (va_rf (some σ.2.1)), some (va_rf (some s5.2.1)), some (va_rf (some s13.2.1)), some (.int p20), none, none, none, none] []) hw (fun  s1357 hw => ?_) (fun j1358 hj1358 hw => ?_)
            · refine z_goto hX dL_law_1712 (tgt := 2124) rfl ?_
              exact hj39  _ hw
            · refine z_if_ne hX dL_law_1697 (tgt := 1712) rfl (fun c1359 => ?_) (fun c1359 => ?_)
              · have hw := hw.1 c1359
                refine z_sub (ls' := [some (va_rf (some b)), some (va_rf (some σ.2.1)), some (va_rf (some s5.2.1)), some (va_rf (some s13.2.1)), some (.int p20), none, none, none, none]) (zsS (zsS (zsS (zsS (zsS (zsN (zsN (zsN (zsN (zs0)))))))))) ?_
                exact hj1358  _ hw
              · have hw := hw.2 c1359
                refine z_aload_n hX dL_law_1700 rfl (i := 3) rfl ?_
                refine z_iconst hX (v := (0 : Int32)) dL_law_1701 (by decide) ?_
                obtain ⟨a1360, n1361, f1362, r1363, m1364, i1365, hw⟩ := hw
                refine z_lald hX dL_law_1702 r1363 m1364 i1365 ?_
                revert hw
                generalize f1362 (Int32.toNatClampNeg (0 : Int32)) = v1366
                intro hw
                refine z_iload hX dL_law_1703 (i := 6) rfl ?_
                refine z_i2l hX dL_law_1705 ?_
                refine z_lcmp hX dL_law_1706 ?_
                refine z_if_eq hX dL_law_1707 (tgt := 1712) rfl (fun c1368 => ?_) (fun c1368 => ?_)
                · have hw := hw.1 c1368
                  refine z_sub (ls' := [some (va_rf (some b)), some (va_rf (some σ.2.1)), some (va_rf (some s5.2.1)), some (va_rf (some s13.2.1)), some (.int p20), none, none, none, none]) (zsS (zsS (zsS (zsS (zsS (zsN (zsN (zsN (zsN (zs0)))))))))) ?_
                  exact hj1358  _ hw
                · have hw := hw.2 c1368
                  refine z_iconst hX (v := (0 : Int32)) dL_law_1710 (by decide) ?_
                  exact z_ireturn hX hR dL_law_1711 (zn_z hw.1) hw.2
          · have hw := hw.2 c1356
            refine z_iconst hX (v := (0 : Int32)) dL_law_1693 (by decide) ?_
            exact z_ireturn hX hR dL_law_1694 (zn_z hw.1) hw.2
        | 30, _, c42 =>
          have c42 : (v36 &&& (63 : Int32)) = (30) := c42
          refine z_tableIn hX dL_law_40 (by rw [c42]; decide) (by rw [c42]; decide) (off := 1675) (by rw [c42]; rfl) (tgt := 1715) rfl ?_
          have hw := hw.2.2.2.2.2.2.2.2.2.2.2.2.2.2.2.2.2.2.2.2.2.2.2.2.2.2.2.2.2.2.2.1 c42
          refine z_aload_n hX dL_law_1715 rfl (i := 1) rfl ?_
          refine z_aload_n hX dL_law_1716 rfl (i := 0) rfl ?_
          refine z_iload hX dL_law_1717 (i := 4) rfl ?_
          refine z_iconst hX (v := (1 : Int32)) dL_law_1719 (by decide) ?_
          refine z_iadd hX dL_law_1720 ?_
          obtain ⟨a1369, n1370, f1371, r1372, m1373, i1374, hw⟩ := hw
          refine z_iald hX dL_law_1721 r1372 m1373 i1374 ?_
          revert hw
          generalize f1371 (Int32.toNatClampNeg (p20 + (1 : Int32))) = v1375
          intro hw
          refine zJ_w (P := fun (j : Int32 → zS → Prop) => ∀ (p1377 : Int32) (s1378 : zS), j p1377 s1378 → zW X s1378 1730 [some (va_rf (some b)), some (va_rf (some σ.2.1)), some (va_rf (some s5.2.1)), some (va_rf (some s13.2.1)), some (.int p20), none, none, none, none] [.int p1377, va_rf (some σ.2.1)]) hw (fun p1377 s1378 hw => ?_) (fun j1379 hj1379 hw => ?_)
          · refine z_aload_n hX dL_law_1730 rfl (i := 0) rfl ?_
            refine z_iload hX dL_law_1731 (i := 4) rfl ?_
            refine z_iconst hX (v := (2 : Int32)) dL_law_1733 (by decide) ?_
            refine z_iadd hX dL_law_1734 ?_
            obtain ⟨a1380, n1381, f1382, r1383, m1384, i1385, hw⟩ := hw
            refine z_iald hX dL_law_1735 r1383 m1384 i1385 ?_
            revert hw
            generalize f1382 (Int32.toNatClampNeg (p20 + (2 : Int32))) = v1386
            intro hw
            refine z_aload_n hX dL_law_1736 rfl (i := 3) rfl ?_
            refine z_invSX hX hd dL_law_1737 (hC 17 _ zm17 _ _ _ _ hw) q2147 q2148 zh0 q2149 q129 zn17 rfl (Nat.le_of_ble_eq_true rfl) (st := []) rfl (zcs8 (Nat.le_of_ble_eq_true rfl)) rfl (zkI (fun v1388 s1389 hw => ?_)) (zout hX hR hTb)
            refine z_istore hX dL_law_1740 (i := 5) (Nat.le_of_ble_eq_true rfl) rfl (ls2 := [some (va_rf (some b)), some (va_rf (some σ.2.1)), some (va_rf (some s5.2.1)), some (va_rf (some s13.2.1)), some (.int p20), some (.int v1388), none, none, none]) rfl ?_
            refine z_aload_n hX dL_law_1742 rfl (i := 2) rfl ?_
            refine z_aload_n hX dL_law_1743 rfl (i := 0) rfl ?_
            refine z_iload hX dL_law_1744 (i := 4) rfl ?_
            refine z_iconst hX (v := (1 : Int32)) dL_law_1746 (by decide) ?_
            refine z_iadd hX dL_law_1747 ?_
            obtain ⟨a1391, n1392, f1393, r1394, m1395, i1396, hw⟩ := hw
            refine z_iald hX dL_law_1748 r1394 m1395 i1396 ?_
            revert hw
            generalize f1393 (Int32.toNatClampNeg (p20 + (1 : Int32))) = v1397
            intro hw
            refine zJ_w (P := fun (j : Int32 → zS → Prop) => ∀ (p1399 : Int32) (s1400 : zS), j p1399 s1400 → zW X s1400 1757 [some (va_rf (some b)), some (va_rf (some σ.2.1)), some (va_rf (some s5.2.1)), some (va_rf (some s13.2.1)), some (.int p20), some (.int v1388), none, none, none] [.int p1399, va_rf (some s5.2.1)]) hw (fun p1399 s1400 hw => ?_) (fun j1401 hj1401 hw => ?_)
            · refine z_aload_n hX dL_law_1757 rfl (i := 0) rfl ?_
              refine z_iload hX dL_law_1758 (i := 4) rfl ?_
              refine z_iconst hX (v := (2 : Int32)) dL_law_1760 (by decide) ?_
              refine z_iadd hX dL_law_1761 ?_
              obtain ⟨a1402, n1403, f1404, r1405, m1406, i1407, hw⟩ := hw
              refine z_iald hX dL_law_1762 r1405 m1406 i1407 ?_
              revert hw
              generalize f1404 (Int32.toNatClampNeg (p20 + (2 : Int32))) = v1408
              intro hw
              obtain ⟨a1413, f1414, r1415, m1416, hw⟩ := hw
              refine z_invV hX hd r1415 (ci := 4) rfl rfl m1416 dL_law_1763 (hC 248 _ zm248 _ _ _ _ hw) q2954 q2955 q2956 zh7 q2957 q136 zn248 rfl (Nat.le_of_ble_eq_true rfl) (st := []) rfl (zcs8 (Nat.le_of_ble_eq_true rfl)) rfl (zkI (fun v1410 s1411 hw => ?_)) (zout hX hR hTb)
              refine z_istore hX dL_law_1766 (i := 6) (Nat.le_of_ble_eq_true rfl) rfl (ls2 := [some (va_rf (some b)), some (va_rf (some σ.2.1)), some (va_rf (some s5.2.1)), some (va_rf (some s13.2.1)), some (.int p20), some (.int v1388), some (.int v1410), none, none]) rfl ?_
              refine z_aload_n hX dL_law_1768 rfl (i := 2) rfl ?_
              obtain ⟨a1420, f1421, r1422, m1423, hw⟩ := hw
              refine z_invV hX hd r1422 (ci := 4) rfl rfl m1423 dL_law_1769 (hC 156 _ zm156 _ _ _ _ hw) q2593 q2594 q2595 zh7 q2596 q136 zn156 rfl (Nat.le_of_ble_eq_true rfl) (st := []) rfl (zcs8 (Nat.le_of_ble_eq_true rfl)) rfl (zkI (fun v1417 s1418 hw => ?_)) (zout hX hR hTb)
              refine z_iload hX dL_law_1772 (i := 5) rfl ?_
              refine z_icmp_eq hX dL_law_1774 (tgt := 1779) rfl (fun c1424 => ?_) (fun c1424 => ?_)
              · have hw := hw.1 c1424
                refine z_iload hX dL_law_1779 (i := 5) rfl ?_
                refine zJ_w (P := fun (j : zS → Prop) => ∀  (s1425 : zS), j  s1425 → zW X s1425 1796 [some (va_rf (some b)), some (va_rf (some σ.2.1)), some (va_rf (some s5.2.1)), some (va_rf (some s13.2.1)), some (.int p20), none, none, none, none] []) hw (fun  s1425 hw => ?_) (fun j1426 hj1426 hw => ?_)
                · refine z_goto hX dL_law_1796 (tgt := 2124) rfl ?_
                  exact hj39  _ hw
                · refine z_if_ne hX dL_law_1781 (tgt := 1796) rfl (fun c1427 => ?_) (fun c1427 => ?_)
                  · have hw := hw.1 c1427
                    refine z_sub (ls' := [some (va_rf (some b)), some (va_rf (some σ.2.1)), some (va_rf (some s5.2.1)), some (va_rf (some s13.2.1)), some (.int p20), none, none, none, none]) (zsS (zsS (zsS (zsS (zsS (zsN (zsN (zsN (zsN (zs0)))))))))) ?_
                    exact hj1426  _ hw
                  · have hw := hw.2 c1427
                    refine z_aload_n hX dL_law_1784 rfl (i := 3) rfl ?_
                    refine z_iconst hX (v := (0 : Int32)) dL_law_1785 (by decide) ?_
                    obtain ⟨a1428, n1429, f1430, r1431, m1432, i1433, hw⟩ := hw
                    refine z_lald hX dL_law_1786 r1431 m1432 i1433 ?_
                    revert hw
                    generalize f1430 (Int32.toNatClampNeg (0 : Int32)) = v1434
                    intro hw
                    refine z_iload hX dL_law_1787 (i := 6) rfl ?_
                    refine z_i2l hX dL_law_1789 ?_
                    refine z_lcmp hX dL_law_1790 ?_
                    refine z_if_eq hX dL_law_1791 (tgt := 1796) rfl (fun c1436 => ?_) (fun c1436 => ?_)
                    · have hw := hw.1 c1436
                      refine z_sub (ls' := [some (va_rf (some b)), some (va_rf (some σ.2.1)), some (va_rf (some s5.2.1)), some (va_rf (some s13.2.1)), some (.int p20), none, none, none, none]) (zsS (zsS (zsS (zsS (zsS (zsN (zsN (zsN (zsN (zs0)))))))))) ?_
                      exact hj1426  _ hw
                    · have hw := hw.2 c1436
                      refine z_iconst hX (v := (0 : Int32)) dL_law_1794 (by decide) ?_
                      exact z_ireturn hX hR dL_law_1795 (zn_z hw.1) hw.2
              · have hw := hw.2 c1424
                refine z_iconst hX (v := (0 : Int32)) dL_law_1777 (by decide) ?_
                exact z_ireturn hX hR dL_law_1778 (zn_z hw.1) hw.2
            · refine z_if_eq hX dL_law_1749 (tgt := 1756) rfl (fun c1437 => ?_) (fun c1437 => ?_)
              · have hw := hw.1 c1437
                refine z_iconst hX (v := (0 : Int32)) dL_law_1756 (by decide) ?_
                exact hj1401 _ _ hw
              · have hw := hw.2 c1437
                refine z_iconst hX (v := (1 : Int32)) dL_law_1752 (by decide) ?_
                refine z_goto hX dL_law_1753 (tgt := 1757) rfl ?_
                exact hj1401 _ _ hw
          · refine z_if_eq hX dL_law_1722 (tgt := 1729) rfl (fun c1438 => ?_) (fun c1438 => ?_)
            · have hw := hw.1 c1438
              refine z_iconst hX (v := (0 : Int32)) dL_law_1729 (by decide) ?_
              exact hj1379 _ _ hw
            · have hw := hw.2 c1438
              refine z_iconst hX (v := (1 : Int32)) dL_law_1725 (by decide) ?_
              refine z_goto hX dL_law_1726 (tgt := 1730) rfl ?_
              exact hj1379 _ _ hw
        | 31, _, c42 =>
          have c42 : (v36 &&& (63 : Int32)) = (31) := c42
          refine z_tableIn hX dL_law_40 (by rw [c42]; decide) (by rw [c42]; decide) (off := 1759) (by rw [c42]; rfl) (tgt := 1799) rfl ?_
          have hw := hw.2.2.2.2.2.2.2.2.2.2.2.2.2.2.2.2.2.2.2.2.2.2.2.2.2.2.2.2.2.2.2.2.1 c42
          refine z_aload_n hX dL_law_1799 rfl (i := 1) rfl ?_
          refine z_aload_n hX dL_law_1800 rfl (i := 0) rfl ?_
          refine z_iload hX dL_law_1801 (i := 4) rfl ?_
          refine z_iconst hX (v := (1 : Int32)) dL_law_1803 (by decide) ?_
          refine z_iadd hX dL_law_1804 ?_
          obtain ⟨a1439, n1440, f1441, r1442, m1443, i1444, hw⟩ := hw
          refine z_iald hX dL_law_1805 r1442 m1443 i1444 ?_
          revert hw
          generalize f1441 (Int32.toNatClampNeg (p20 + (1 : Int32))) = v1445
          intro hw
          refine z_aload_n hX dL_law_1806 rfl (i := 3) rfl ?_
          refine z_invSX hX hd dL_law_1807 (hC 18 _ zm18 _ _ _ _ hw) q2155 q2156 zh0 q2157 q129 zn18 rfl (Nat.le_of_ble_eq_true rfl) (st := []) rfl (zcs8 (Nat.le_of_ble_eq_true rfl)) rfl (zkI (fun v1447 s1448 hw => ?_)) (zout hX hR hTb)
          refine z_istore hX dL_law_1810 (i := 5) (Nat.le_of_ble_eq_true rfl) rfl (ls2 := [some (va_rf (some b)), some (va_rf (some σ.2.1)), some (va_rf (some s5.2.1)), some (va_rf (some s13.2.1)), some (.int p20), some (.int v1447), none, none, none]) rfl ?_
          refine z_aload_n hX dL_law_1812 rfl (i := 2) rfl ?_
          refine z_aload_n hX dL_law_1813 rfl (i := 0) rfl ?_
          refine z_iload hX dL_law_1814 (i := 4) rfl ?_
          refine z_iconst hX (v := (1 : Int32)) dL_law_1816 (by decide) ?_
          refine z_iadd hX dL_law_1817 ?_
          obtain ⟨a1450, n1451, f1452, r1453, m1454, i1455, hw⟩ := hw
          refine z_iald hX dL_law_1818 r1453 m1454 i1455 ?_
          revert hw
          generalize f1452 (Int32.toNatClampNeg (p20 + (1 : Int32))) = v1456
          intro hw
          obtain ⟨a1461, f1462, r1463, m1464, hw⟩ := hw
          refine z_invV hX hd r1463 (ci := 4) rfl rfl m1464 dL_law_1819 (hC 249 _ zm249 _ _ _ _ hw) q2958 q2959 q2960 zh7 q2961 q136 zn249 rfl (Nat.le_of_ble_eq_true rfl) (st := []) rfl (zcs8 (Nat.le_of_ble_eq_true rfl)) rfl (zkI (fun v1458 s1459 hw => ?_)) (zout hX hR hTb)
          refine z_istore hX dL_law_1822 (i := 6) (Nat.le_of_ble_eq_true rfl) rfl (ls2 := [some (va_rf (some b)), some (va_rf (some σ.2.1)), some (va_rf (some s5.2.1)), some (va_rf (some s13.2.1)), some (.int p20), some (.int v1447), some (.int v1458), none, none]) rfl ?_
          refine z_aload_n hX dL_law_1824 rfl (i := 2) rfl ?_
          obtain ⟨a1468, f1469, r1470, m1471, hw⟩ := hw
          refine z_invV hX hd r1470 (ci := 4) rfl rfl m1471 dL_law_1825 (hC 156 _ zm156 _ _ _ _ hw) q2593 q2594 q2595 zh7 q2596 q136 zn156 rfl (Nat.le_of_ble_eq_true rfl) (st := []) rfl (zcs8 (Nat.le_of_ble_eq_true rfl)) rfl (zkI (fun v1465 s1466 hw => ?_)) (zout hX hR hTb)
          refine z_iload hX dL_law_1828 (i := 5) rfl ?_
          refine z_icmp_eq hX dL_law_1830 (tgt := 1835) rfl (fun c1472 => ?_) (fun c1472 => ?_)
          · have hw := hw.1 c1472
            refine z_iload hX dL_law_1835 (i := 5) rfl ?_
            refine zJ_w (P := fun (j : zS → Prop) => ∀  (s1473 : zS), j  s1473 → zW X s1473 1852 [some (va_rf (some b)), some (va_rf (some σ.2.1)), some (va_rf (some s5.2.1)), some (va_rf (some s13.2.1)), some (.int p20), none, none, none, none] []) hw (fun  s1473 hw => ?_) (fun j1474 hj1474 hw => ?_)
            · refine z_goto hX dL_law_1852 (tgt := 2124) rfl ?_
              exact hj39  _ hw
            · refine z_if_ne hX dL_law_1837 (tgt := 1852) rfl (fun c1475 => ?_) (fun c1475 => ?_)
              · have hw := hw.1 c1475
                refine z_sub (ls' := [some (va_rf (some b)), some (va_rf (some σ.2.1)), some (va_rf (some s5.2.1)), some (va_rf (some s13.2.1)), some (.int p20), none, none, none, none]) (zsS (zsS (zsS (zsS (zsS (zsN (zsN (zsN (zsN (zs0)))))))))) ?_
                exact hj1474  _ hw
              · have hw := hw.2 c1475
                refine z_aload_n hX dL_law_1840 rfl (i := 3) rfl ?_
                refine z_iconst hX (v := (0 : Int32)) dL_law_1841 (by decide) ?_
                obtain ⟨a1476, n1477, f1478, r1479, m1480, i1481, hw⟩ := hw
                refine z_lald hX dL_law_1842 r1479 m1480 i1481 ?_
                revert hw
                generalize f1478 (Int32.toNatClampNeg (0 : Int32)) = v1482
                intro hw
                refine z_iload hX dL_law_1843 (i := 6) rfl ?_
                refine z_i2l hX dL_law_1845 ?_
                refine z_lcmp hX dL_law_1846 ?_
                refine z_if_eq hX dL_law_1847 (tgt := 1852) rfl (fun c1484 => ?_) (fun c1484 => ?_)
                · have hw := hw.1 c1484
                  refine z_sub (ls' := [some (va_rf (some b)), some (va_rf (some σ.2.1)), some (va_rf (some s5.2.1)), some (va_rf (some s13.2.1)), some (.int p20), none, none, none, none]) (zsS (zsS (zsS (zsS (zsS (zsN (zsN (zsN (zsN (zs0)))))))))) ?_
                  exact hj1474  _ hw
                · have hw := hw.2 c1484
                  refine z_iconst hX (v := (0 : Int32)) dL_law_1850 (by decide) ?_
                  exact z_ireturn hX hR dL_law_1851 (zn_z hw.1) hw.2
          · have hw := hw.2 c1472
            refine z_iconst hX (v := (0 : Int32)) dL_law_1833 (by decide) ?_
            exact z_ireturn hX hR dL_law_1834 (zn_z hw.1) hw.2
        | 32, _, c42 =>
          have c42 : (v36 &&& (63 : Int32)) = (32) := c42
          refine z_tableIn hX dL_law_40 (by rw [c42]; decide) (by rw [c42]; decide) (off := 1815) (by rw [c42]; rfl) (tgt := 1855) rfl ?_
          have hw := hw.2.2.2.2.2.2.2.2.2.2.2.2.2.2.2.2.2.2.2.2.2.2.2.2.2.2.2.2.2.2.2.2.2.1 c42
          refine z_aload_n hX dL_law_1855 rfl (i := 1) rfl ?_
          obtain ⟨a1488, f1489, r1490, m1491, hw⟩ := hw
          refine z_invV hX hd r1490 (ci := 0) rfl rfl m1491 dL_law_1856 (hC 41 _ zm41 _ _ _ _ hw) q945 q946 q947 zh1 q948 q130 zn41 rfl (Nat.le_of_ble_eq_true rfl) (st := []) rfl (zcs8 (Nat.le_of_ble_eq_true rfl)) rfl (zkI (fun v1485 s1486 hw => ?_)) (zout hX hR hTb)
          refine z_aload_n hX dL_law_1859 rfl (i := 2) rfl ?_
          obtain ⟨a1495, f1496, r1497, m1498, hw⟩ := hw
          refine z_invV hX hd r1497 (ci := 4) rfl rfl m1498 dL_law_1860 (hC 251 _ zm251 _ _ _ _ hw) q2967 q2968 q2969 zh7 q2970 q136 zn251 rfl (Nat.le_of_ble_eq_true rfl) (st := [.int v1485]) rfl (zcs8 (Nat.le_of_ble_eq_true rfl)) rfl (zkI (fun v1492 s1493 hw => ?_)) (zout hX hR hTb)
          refine z_icmp_eq hX dL_law_1863 (tgt := 2124) rfl (fun c1499 => ?_) (fun c1499 => ?_)
          · have hw := hw.1 c1499
            exact hj39  _ hw
          · have hw := hw.2 c1499
            refine z_iconst hX (v := (0 : Int32)) dL_law_1866 (by decide) ?_
            exact z_ireturn hX hR dL_law_1867 (zn_z hw.1) hw.2
        | 33, _, c42 =>
          have c42 : (v36 &&& (63 : Int32)) = (33) := c42
          refine z_tableIn hX dL_law_40 (by rw [c42]; decide) (by rw [c42]; decide) (off := 1828) (by rw [c42]; rfl) (tgt := 1868) rfl ?_
          have hw := hw.2.2.2.2.2.2.2.2.2.2.2.2.2.2.2.2.2.2.2.2.2.2.2.2.2.2.2.2.2.2.2.2.2.2.1 c42
          refine z_aload_n hX dL_law_1868 rfl (i := 1) rfl ?_
          refine z_aload_n hX dL_law_1869 rfl (i := 0) rfl ?_
          refine z_iload hX dL_law_1870 (i := 4) rfl ?_
          refine z_iconst hX (v := (1 : Int32)) dL_law_1872 (by decide) ?_
          refine z_iadd hX dL_law_1873 ?_
          obtain ⟨a1500, n1501, f1502, r1503, m1504, i1505, hw⟩ := hw
          refine z_iald hX dL_law_1874 r1503 m1504 i1505 ?_
          revert hw
          generalize f1502 (Int32.toNatClampNeg (p20 + (1 : Int32))) = v1506
          intro hw
          refine z_aload_n hX dL_law_1875 rfl (i := 3) rfl ?_
          refine z_invSX hX hd dL_law_1876 (hC 19 _ zm19 _ _ _ _ hw) q2163 q2164 zh0 q2165 q129 zn19 rfl (Nat.le_of_ble_eq_true rfl) (st := []) rfl (zcs8 (Nat.le_of_ble_eq_true rfl)) rfl (zkI (fun v1508 s1509 hw => ?_)) (zout hX hR hTb)
          refine z_istore hX dL_law_1879 (i := 5) (Nat.le_of_ble_eq_true rfl) rfl (ls2 := [some (va_rf (some b)), some (va_rf (some σ.2.1)), some (va_rf (some s5.2.1)), some (va_rf (some s13.2.1)), some (.int p20), some (.int v1508), none, none, none]) rfl ?_
          refine z_aload_n hX dL_law_1881 rfl (i := 2) rfl ?_
          refine z_aload_n hX dL_law_1882 rfl (i := 0) rfl ?_
          refine z_iload hX dL_law_1883 (i := 4) rfl ?_
          refine z_iconst hX (v := (1 : Int32)) dL_law_1885 (by decide) ?_
          refine z_iadd hX dL_law_1886 ?_
          obtain ⟨a1511, n1512, f1513, r1514, m1515, i1516, hw⟩ := hw
          refine z_iald hX dL_law_1887 r1514 m1515 i1516 ?_
          revert hw
          generalize f1513 (Int32.toNatClampNeg (p20 + (1 : Int32))) = v1517
          intro hw
          obtain ⟨a1522, f1523, r1524, m1525, hw⟩ := hw
          refine z_invV hX hd r1524 (ci := 4) rfl rfl m1525 dL_law_1888 (hC 252 _ zm252 _ _ _ _ hw) q2971 q2972 q2973 zh7 q2974 q136 zn252 rfl (Nat.le_of_ble_eq_true rfl) (st := []) rfl (zcs8 (Nat.le_of_ble_eq_true rfl)) rfl (zkI (fun v1519 s1520 hw => ?_)) (zout hX hR hTb)
          refine z_istore hX dL_law_1891 (i := 6) (Nat.le_of_ble_eq_true rfl) rfl (ls2 := [some (va_rf (some b)), some (va_rf (some σ.2.1)), some (va_rf (some s5.2.1)), some (va_rf (some s13.2.1)), some (.int p20), some (.int v1508), some (.int v1519), none, none]) rfl ?_
          refine z_aload_n hX dL_law_1893 rfl (i := 2) rfl ?_
          obtain ⟨a1529, f1530, r1531, m1532, hw⟩ := hw
          refine z_invV hX hd r1531 (ci := 4) rfl rfl m1532 dL_law_1894 (hC 156 _ zm156 _ _ _ _ hw) q2593 q2594 q2595 zh7 q2596 q136 zn156 rfl (Nat.le_of_ble_eq_true rfl) (st := []) rfl (zcs8 (Nat.le_of_ble_eq_true rfl)) rfl (zkI (fun v1526 s1527 hw => ?_)) (zout hX hR hTb)
          refine z_iload hX dL_law_1897 (i := 5) rfl ?_
          refine z_icmp_eq hX dL_law_1899 (tgt := 1904) rfl (fun c1533 => ?_) (fun c1533 => ?_)
          · have hw := hw.1 c1533
            refine z_iload hX dL_law_1904 (i := 5) rfl ?_
            refine zJ_w (P := fun (j : zS → Prop) => ∀  (s1534 : zS), j  s1534 → zW X s1534 1921 [some (va_rf (some b)), some (va_rf (some σ.2.1)), some (va_rf (some s5.2.1)), some (va_rf (some s13.2.1)), some (.int p20), none, none, none, none] []) hw (fun  s1534 hw => ?_) (fun j1535 hj1535 hw => ?_)
            · refine z_goto hX dL_law_1921 (tgt := 2124) rfl ?_
              exact hj39  _ hw
            · refine z_if_ne hX dL_law_1906 (tgt := 1921) rfl (fun c1536 => ?_) (fun c1536 => ?_)
              · have hw := hw.1 c1536
                refine z_sub (ls' := [some (va_rf (some b)), some (va_rf (some σ.2.1)), some (va_rf (some s5.2.1)), some (va_rf (some s13.2.1)), some (.int p20), none, none, none, none]) (zsS (zsS (zsS (zsS (zsS (zsN (zsN (zsN (zsN (zs0)))))))))) ?_
                exact hj1535  _ hw
              · have hw := hw.2 c1536
                refine z_aload_n hX dL_law_1909 rfl (i := 3) rfl ?_
                refine z_iconst hX (v := (0 : Int32)) dL_law_1910 (by decide) ?_
                obtain ⟨a1537, n1538, f1539, r1540, m1541, i1542, hw⟩ := hw
                refine z_lald hX dL_law_1911 r1540 m1541 i1542 ?_
                revert hw
                generalize f1539 (Int32.toNatClampNeg (0 : Int32)) = v1543
                intro hw
                refine z_iload hX dL_law_1912 (i := 6) rfl ?_
                refine z_i2l hX dL_law_1914 ?_
                refine z_lcmp hX dL_law_1915 ?_
                refine z_if_eq hX dL_law_1916 (tgt := 1921) rfl (fun c1545 => ?_) (fun c1545 => ?_)
                · have hw := hw.1 c1545
                  refine z_sub (ls' := [some (va_rf (some b)), some (va_rf (some σ.2.1)), some (va_rf (some s5.2.1)), some (va_rf (some s13.2.1)), some (.int p20), none, none, none, none]) (zsS (zsS (zsS (zsS (zsS (zsN (zsN (zsN (zsN (zs0)))))))))) ?_
                  exact hj1535  _ hw
                · have hw := hw.2 c1545
                  refine z_iconst hX (v := (0 : Int32)) dL_law_1919 (by decide) ?_
                  exact z_ireturn hX hR dL_law_1920 (zn_z hw.1) hw.2
          · have hw := hw.2 c1533
            refine z_iconst hX (v := (0 : Int32)) dL_law_1902 (by decide) ?_
            exact z_ireturn hX hR dL_law_1903 (zn_z hw.1) hw.2
        | 34, _, c42 =>
          have c42 : (v36 &&& (63 : Int32)) = (34) := c42
          refine z_tableIn hX dL_law_40 (by rw [c42]; decide) (by rw [c42]; decide) (off := 1884) (by rw [c42]; rfl) (tgt := 1924) rfl ?_
          have hw := hw.2.2.2.2.2.2.2.2.2.2.2.2.2.2.2.2.2.2.2.2.2.2.2.2.2.2.2.2.2.2.2.2.2.2.2.1 c42
          refine z_aload_n hX dL_law_1924 rfl (i := 1) rfl ?_
          obtain ⟨a1549, f1550, r1551, m1552, hw⟩ := hw
          refine z_invV hX hd r1551 (ci := 0) rfl rfl m1552 dL_law_1925 (hC 42 _ zm42 _ _ _ _ hw) q954 q955 q956 zh1 q957 q130 zn42 rfl (Nat.le_of_ble_eq_true rfl) (st := []) rfl (zcs8 (Nat.le_of_ble_eq_true rfl)) rfl (zkI (fun v1546 s1547 hw => ?_)) (zout hX hR hTb)
          refine z_aload_n hX dL_law_1928 rfl (i := 2) rfl ?_
          obtain ⟨a1556, f1557, r1558, m1559, hw⟩ := hw
          refine z_invV hX hd r1558 (ci := 4) rfl rfl m1559 dL_law_1929 (hC 253 _ zm253 _ _ _ _ hw) q2975 q2976 q2977 zh7 q2978 q136 zn253 rfl (Nat.le_of_ble_eq_true rfl) (st := [.int v1546]) rfl (zcs8 (Nat.le_of_ble_eq_true rfl)) rfl (zkI (fun v1553 s1554 hw => ?_)) (zout hX hR hTb)
          refine z_icmp_eq hX dL_law_1932 (tgt := 2124) rfl (fun c1560 => ?_) (fun c1560 => ?_)
          · have hw := hw.1 c1560
            exact hj39  _ hw
          · have hw := hw.2 c1560
            refine z_iconst hX (v := (0 : Int32)) dL_law_1935 (by decide) ?_
            exact z_ireturn hX hR dL_law_1936 (zn_z hw.1) hw.2
        | 35, _, c42 =>
          have c42 : (v36 &&& (63 : Int32)) = (35) := c42
          refine z_tableIn hX dL_law_40 (by rw [c42]; decide) (by rw [c42]; decide) (off := 1897) (by rw [c42]; rfl) (tgt := 1937) rfl ?_
          have hw := hw.2.2.2.2.2.2.2.2.2.2.2.2.2.2.2.2.2.2.2.2.2.2.2.2.2.2.2.2.2.2.2.2.2.2.2.2.1 c42
          refine z_aload_n hX dL_law_1937 rfl (i := 1) rfl ?_
          refine z_aload_n hX dL_law_1938 rfl (i := 0) rfl ?_
          refine z_iload hX dL_law_1939 (i := 4) rfl ?_
          refine z_iconst hX (v := (1 : Int32)) dL_law_1941 (by decide) ?_
          refine z_iadd hX dL_law_1942 ?_
          obtain ⟨a1561, n1562, f1563, r1564, m1565, i1566, hw⟩ := hw
          refine z_iald hX dL_law_1943 r1564 m1565 i1566 ?_
          revert hw
          generalize f1563 (Int32.toNatClampNeg (p20 + (1 : Int32))) = v1567
          intro hw
          refine z_aload_n hX dL_law_1944 rfl (i := 3) rfl ?_
          refine z_invSX hX hd dL_law_1945 (hC 20 _ zm20 _ _ _ _ hw) q2171 q2172 zh0 q2173 q129 zn20 rfl (Nat.le_of_ble_eq_true rfl) (st := []) rfl (zcs8 (Nat.le_of_ble_eq_true rfl)) rfl (zkI (fun v1569 s1570 hw => ?_)) (zout hX hR hTb)
          refine z_istore hX dL_law_1948 (i := 5) (Nat.le_of_ble_eq_true rfl) rfl (ls2 := [some (va_rf (some b)), some (va_rf (some σ.2.1)), some (va_rf (some s5.2.1)), some (va_rf (some s13.2.1)), some (.int p20), some (.int v1569), none, none, none]) rfl ?_
          refine z_aload_n hX dL_law_1950 rfl (i := 2) rfl ?_
          refine z_aload_n hX dL_law_1951 rfl (i := 0) rfl ?_
          refine z_iload hX dL_law_1952 (i := 4) rfl ?_
          refine z_iconst hX (v := (1 : Int32)) dL_law_1954 (by decide) ?_
          refine z_iadd hX dL_law_1955 ?_
          obtain ⟨a1572, n1573, f1574, r1575, m1576, i1577, hw⟩ := hw
          refine z_iald hX dL_law_1956 r1575 m1576 i1577 ?_
          revert hw
          generalize f1574 (Int32.toNatClampNeg (p20 + (1 : Int32))) = v1578
          intro hw
          obtain ⟨a1583, f1584, r1585, m1586, hw⟩ := hw
          refine z_invV hX hd r1585 (ci := 4) rfl rfl m1586 dL_law_1957 (hC 254 _ zm254 _ _ _ _ hw) q2979 q2980 q2981 zh7 q2982 q136 zn254 rfl (Nat.le_of_ble_eq_true rfl) (st := []) rfl (zcs8 (Nat.le_of_ble_eq_true rfl)) rfl (zkI (fun v1580 s1581 hw => ?_)) (zout hX hR hTb)
          refine z_istore hX dL_law_1960 (i := 6) (Nat.le_of_ble_eq_true rfl) rfl (ls2 := [some (va_rf (some b)), some (va_rf (some σ.2.1)), some (va_rf (some s5.2.1)), some (va_rf (some s13.2.1)), some (.int p20), some (.int v1569), some (.int v1580), none, none]) rfl ?_
          refine z_aload_n hX dL_law_1962 rfl (i := 2) rfl ?_
          obtain ⟨a1590, f1591, r1592, m1593, hw⟩ := hw
          refine z_invV hX hd r1592 (ci := 4) rfl rfl m1593 dL_law_1963 (hC 156 _ zm156 _ _ _ _ hw) q2593 q2594 q2595 zh7 q2596 q136 zn156 rfl (Nat.le_of_ble_eq_true rfl) (st := []) rfl (zcs8 (Nat.le_of_ble_eq_true rfl)) rfl (zkI (fun v1587 s1588 hw => ?_)) (zout hX hR hTb)
          refine z_iload hX dL_law_1966 (i := 5) rfl ?_
          refine z_icmp_eq hX dL_law_1968 (tgt := 1973) rfl (fun c1594 => ?_) (fun c1594 => ?_)
          · have hw := hw.1 c1594
            refine z_iload hX dL_law_1973 (i := 5) rfl ?_
            refine zJ_w (P := fun (j : zS → Prop) => ∀  (s1595 : zS), j  s1595 → zW X s1595 1990 [some (va_rf (some b)), some (va_rf (some σ.2.1)), some (va_rf (some s5.2.1)), some (va_rf (some s13.2.1)), some (.int p20), none, none, none, none] []) hw (fun  s1595 hw => ?_) (fun j1596 hj1596 hw => ?_)
            · refine z_goto hX dL_law_1990 (tgt := 2124) rfl ?_
              exact hj39  _ hw
            · refine z_if_ne hX dL_law_1975 (tgt := 1990) rfl (fun c1597 => ?_) (fun c1597 => ?_)
              · have hw := hw.1 c1597
                refine z_sub (ls' := [some (va_rf (some b)), some (va_rf (some σ.2.1)), some (va_rf (some s5.2.1)), some (va_rf (some s13.2.1)), some (.int p20), none, none, none, none]) (zsS (zsS (zsS (zsS (zsS (zsN (zsN (zsN (zsN (zs0)))))))))) ?_
                exact hj1596  _ hw
              · have hw := hw.2 c1597
                refine z_aload_n hX dL_law_1978 rfl (i := 3) rfl ?_
                refine z_iconst hX (v := (0 : Int32)) dL_law_1979 (by decide) ?_
                obtain ⟨a1598, n1599, f1600, r1601, m1602, i1603, hw⟩ := hw
                refine z_lald hX dL_law_1980 r1601 m1602 i1603 ?_
                revert hw
                generalize f1600 (Int32.toNatClampNeg (0 : Int32)) = v1604
                intro hw
                refine z_iload hX dL_law_1981 (i := 6) rfl ?_
                refine z_i2l hX dL_law_1983 ?_
                refine z_lcmp hX dL_law_1984 ?_
                refine z_if_eq hX dL_law_1985 (tgt := 1990) rfl (fun c1606 => ?_) (fun c1606 => ?_)
                · have hw := hw.1 c1606
                  refine z_sub (ls' := [some (va_rf (some b)), some (va_rf (some σ.2.1)), some (va_rf (some s5.2.1)), some (va_rf (some s13.2.1)), some (.int p20), none, none, none, none]) (zsS (zsS (zsS (zsS (zsS (zsN (zsN (zsN (zsN (zs0)))))))))) ?_
                  exact hj1596  _ hw
                · have hw := hw.2 c1606
                  refine z_iconst hX (v := (0 : Int32)) dL_law_1988 (by decide) ?_
                  exact z_ireturn hX hR dL_law_1989 (zn_z hw.1) hw.2
          · have hw := hw.2 c1594
            refine z_iconst hX (v := (0 : Int32)) dL_law_1971 (by decide) ?_
            exact z_ireturn hX hR dL_law_1972 (zn_z hw.1) hw.2
        | 36, _, c42 =>
          have c42 : (v36 &&& (63 : Int32)) = (36) := c42
          refine z_tableIn hX dL_law_40 (by rw [c42]; decide) (by rw [c42]; decide) (off := 1953) (by rw [c42]; rfl) (tgt := 1993) rfl ?_
          have hw := hw.2.2.2.2.2.2.2.2.2.2.2.2.2.2.2.2.2.2.2.2.2.2.2.2.2.2.2.2.2.2.2.2.2.2.2.2.2.1 c42
          refine z_aload_n hX dL_law_1993 rfl (i := 1) rfl ?_
          refine z_aload_n hX dL_law_1994 rfl (i := 0) rfl ?_
          refine z_iload hX dL_law_1995 (i := 4) rfl ?_
          refine z_iconst hX (v := (1 : Int32)) dL_law_1997 (by decide) ?_
          refine z_iadd hX dL_law_1998 ?_
          obtain ⟨a1607, n1608, f1609, r1610, m1611, i1612, hw⟩ := hw
          refine z_iald hX dL_law_1999 r1610 m1611 i1612 ?_
          revert hw
          generalize f1609 (Int32.toNatClampNeg (p20 + (1 : Int32))) = v1613
          intro hw
          obtain ⟨a1618, f1619, r1620, m1621, hw⟩ := hw
          refine z_invV hX hd r1620 (ci := 0) rfl rfl m1621 dL_law_2000 (hC 47 _ zm47 _ _ _ _ hw) q1000 q1001 q1002 zh1 q1003 q130 zn47 rfl (Nat.le_of_ble_eq_true rfl) (st := []) rfl (zcs8 (Nat.le_of_ble_eq_true rfl)) rfl (zkI (fun v1615 s1616 hw => ?_)) (zout hX hR hTb)
          refine z_aload_n hX dL_law_2003 rfl (i := 2) rfl ?_
          refine z_aload_n hX dL_law_2004 rfl (i := 0) rfl ?_
          refine z_iload hX dL_law_2005 (i := 4) rfl ?_
          refine z_iconst hX (v := (1 : Int32)) dL_law_2007 (by decide) ?_
          refine z_iadd hX dL_law_2008 ?_
          obtain ⟨a1622, n1623, f1624, r1625, m1626, i1627, hw⟩ := hw
          refine z_iald hX dL_law_2009 r1625 m1626 i1627 ?_
          revert hw
          generalize f1624 (Int32.toNatClampNeg (p20 + (1 : Int32))) = v1628
          intro hw
          obtain ⟨a1633, f1634, r1635, m1636, hw⟩ := hw
          refine z_invV hX hd r1635 (ci := 4) rfl rfl m1636 dL_law_2010 (hC 257 _ zm257 _ _ _ _ hw) q2994 q2995 q2996 zh7 q2997 q136 zn257 rfl (Nat.le_of_ble_eq_true rfl) (st := [.int v1615]) rfl (zcs8 (Nat.le_of_ble_eq_true rfl)) rfl (zkI (fun v1630 s1631 hw => ?_)) (zout hX hR hTb)
          refine z_icmp_eq hX dL_law_2013 (tgt := 2124) rfl (fun c1637 => ?_) (fun c1637 => ?_)
          · have hw := hw.1 c1637
            exact hj39  _ hw
          · have hw := hw.2 c1637
            refine z_iconst hX (v := (0 : Int32)) dL_law_2016 (by decide) ?_
            exact z_ireturn hX hR dL_law_2017 (zn_z hw.1) hw.2
        | 37, _, c42 =>
          have c42 : (v36 &&& (63 : Int32)) = (37) := c42
          refine z_tableIn hX dL_law_40 (by rw [c42]; decide) (by rw [c42]; decide) (off := 1978) (by rw [c42]; rfl) (tgt := 2018) rfl ?_
          have hw := hw.2.2.2.2.2.2.2.2.2.2.2.2.2.2.2.2.2.2.2.2.2.2.2.2.2.2.2.2.2.2.2.2.2.2.2.2.2.2.1 c42
          refine z_aload_n hX dL_law_2018 rfl (i := 1) rfl ?_
          obtain ⟨a1641, f1642, r1643, m1644, hw⟩ := hw
          refine z_invV hX hd r1643 (ci := 0) rfl rfl m1644 dL_law_2019 (hC 43 _ zm43 _ _ _ _ hw) q962 q963 q964 zh1 q965 q130 zn43 rfl (Nat.le_of_ble_eq_true rfl) (st := []) rfl (zcs8 (Nat.le_of_ble_eq_true rfl)) rfl (zkI (fun v1638 s1639 hw => ?_)) (zout hX hR hTb)
          refine z_aload_n hX dL_law_2022 rfl (i := 2) rfl ?_
          obtain ⟨a1648, f1649, r1650, m1651, hw⟩ := hw
          refine z_invV hX hd r1650 (ci := 4) rfl rfl m1651 dL_law_2023 (hC 258 _ zm258 _ _ _ _ hw) q2998 q2999 q3000 zh7 q3001 q136 zn258 rfl (Nat.le_of_ble_eq_true rfl) (st := [.int v1638]) rfl (zcs8 (Nat.le_of_ble_eq_true rfl)) rfl (zkI (fun v1645 s1646 hw => ?_)) (zout hX hR hTb)
          refine z_icmp_eq hX dL_law_2026 (tgt := 2124) rfl (fun c1652 => ?_) (fun c1652 => ?_)
          · have hw := hw.1 c1652
            exact hj39  _ hw
          · have hw := hw.2 c1652
            refine z_iconst hX (v := (0 : Int32)) dL_law_2029 (by decide) ?_
            exact z_ireturn hX hR dL_law_2030 (zn_z hw.1) hw.2
        | 38, _, c42 =>
          have c42 : (v36 &&& (63 : Int32)) = (38) := c42
          refine z_tableIn hX dL_law_40 (by rw [c42]; decide) (by rw [c42]; decide) (off := 1991) (by rw [c42]; rfl) (tgt := 2031) rfl ?_
          have hw := hw.2.2.2.2.2.2.2.2.2.2.2.2.2.2.2.2.2.2.2.2.2.2.2.2.2.2.2.2.2.2.2.2.2.2.2.2.2.2.2.1 c42
          refine z_aload_n hX dL_law_2031 rfl (i := 1) rfl ?_
          obtain ⟨a1656, f1657, r1658, m1659, hw⟩ := hw
          refine z_invV hX hd r1658 (ci := 0) rfl rfl m1659 dL_law_2032 (hC 44 _ zm44 _ _ _ _ hw) q966 q967 q968 zh1 q969 q130 zn44 rfl (Nat.le_of_ble_eq_true rfl) (st := []) rfl (zcs8 (Nat.le_of_ble_eq_true rfl)) rfl (zkI (fun v1653 s1654 hw => ?_)) (zout hX hR hTb)
          refine z_aload_n hX dL_law_2035 rfl (i := 2) rfl ?_
          obtain ⟨a1663, f1664, r1665, m1666, hw⟩ := hw
          refine z_invV hX hd r1665 (ci := 4) rfl rfl m1666 dL_law_2036 (hC 259 _ zm259 _ _ _ _ hw) q3002 q3003 q3004 zh7 q3005 q136 zn259 rfl (Nat.le_of_ble_eq_true rfl) (st := [.int v1653]) rfl (zcs8 (Nat.le_of_ble_eq_true rfl)) rfl (zkI (fun v1660 s1661 hw => ?_)) (zout hX hR hTb)
          refine z_icmp_eq hX dL_law_2039 (tgt := 2124) rfl (fun c1667 => ?_) (fun c1667 => ?_)
          · have hw := hw.1 c1667
            exact hj39  _ hw
          · have hw := hw.2 c1667
            refine z_iconst hX (v := (0 : Int32)) dL_law_2042 (by decide) ?_
            exact z_ireturn hX hR dL_law_2043 (zn_z hw.1) hw.2
        | 39, _, c42 =>
          have c42 : (v36 &&& (63 : Int32)) = (39) := c42
          refine z_tableIn hX dL_law_40 (by rw [c42]; decide) (by rw [c42]; decide) (off := 2004) (by rw [c42]; rfl) (tgt := 2044) rfl ?_
          have hw := hw.2.2.2.2.2.2.2.2.2.2.2.2.2.2.2.2.2.2.2.2.2.2.2.2.2.2.2.2.2.2.2.2.2.2.2.2.2.2.2.2.1 c42
          refine z_aload_n hX dL_law_2044 rfl (i := 1) rfl ?_
          obtain ⟨a1671, f1672, r1673, m1674, hw⟩ := hw
          refine z_invV hX hd r1673 (ci := 0) rfl rfl m1674 dL_law_2045 (hC 45 _ zm45 _ _ _ _ hw) q985 q986 q987 zh1 q988 q130 zn45 rfl (Nat.le_of_ble_eq_true rfl) (st := []) rfl (zcs8 (Nat.le_of_ble_eq_true rfl)) rfl (zkV (fun s1669 hw => ?_)) (zout hX hR hTb)
          refine z_aload_n hX dL_law_2048 rfl (i := 2) rfl ?_
          obtain ⟨a1678, f1679, r1680, m1681, hw⟩ := hw
          refine z_invV hX hd r1680 (ci := 4) rfl rfl m1681 dL_law_2049 (hC 260 _ zm260 _ _ _ _ hw) q3006 q3007 q3008 zh7 q3009 q136 zn260 rfl (Nat.le_of_ble_eq_true rfl) (st := []) rfl (zcs8 (Nat.le_of_ble_eq_true rfl)) rfl (zkV (fun s1676 hw => ?_)) (zout hX hR hTb)
          refine z_goto hX dL_law_2052 (tgt := 2124) rfl ?_
          exact hj39  _ hw
        | 40, _, c42 =>
          have c42 : (v36 &&& (63 : Int32)) = (40) := c42
          refine z_tableIn hX dL_law_40 (by rw [c42]; decide) (by rw [c42]; decide) (off := 2015) (by rw [c42]; rfl) (tgt := 2055) rfl ?_
          have hw := hw.2.2.2.2.2.2.2.2.2.2.2.2.2.2.2.2.2.2.2.2.2.2.2.2.2.2.2.2.2.2.2.2.2.2.2.2.2.2.2.2.2.1 c42
          refine z_aload_n hX dL_law_2055 rfl (i := 1) rfl ?_
          obtain ⟨a1685, f1686, r1687, m1688, hw⟩ := hw
          refine z_invV hX hd r1687 (ci := 0) rfl rfl m1688 dL_law_2056 (hC 46 _ zm46 _ _ _ _ hw) q989 q990 q991 zh1 q992 q130 zn46 rfl (Nat.le_of_ble_eq_true rfl) (st := []) rfl (zcs8 (Nat.le_of_ble_eq_true rfl)) rfl (zkI (fun v1682 s1683 hw => ?_)) (zout hX hR hTb)
          refine z_aload_n hX dL_law_2059 rfl (i := 2) rfl ?_
          obtain ⟨a1692, f1693, r1694, m1695, hw⟩ := hw
          refine z_invV hX hd r1694 (ci := 4) rfl rfl m1695 dL_law_2060 (hC 261 _ zm261 _ _ _ _ hw) q3010 q3011 q3012 zh7 q3013 q136 zn261 rfl (Nat.le_of_ble_eq_true rfl) (st := [.int v1682]) rfl (zcs8 (Nat.le_of_ble_eq_true rfl)) rfl (zkI (fun v1689 s1690 hw => ?_)) (zout hX hR hTb)
          refine z_icmp_eq hX dL_law_2063 (tgt := 2124) rfl (fun c1696 => ?_) (fun c1696 => ?_)
          · have hw := hw.1 c1696
            exact hj39  _ hw
          · have hw := hw.2 c1696
            refine z_iconst hX (v := (0 : Int32)) dL_law_2066 (by decide) ?_
            exact z_ireturn hX hR dL_law_2067 (zn_z hw.1) hw.2
        | 41, _, c42 =>
          have c42 : (v36 &&& (63 : Int32)) = (41) := c42
          refine z_tableIn hX dL_law_40 (by rw [c42]; decide) (by rw [c42]; decide) (off := 2028) (by rw [c42]; rfl) (tgt := 2068) rfl ?_
          have hw := hw.2.2.2.2.2.2.2.2.2.2.2.2.2.2.2.2.2.2.2.2.2.2.2.2.2.2.2.2.2.2.2.2.2.2.2.2.2.2.2.2.2.2 c42
          refine z_aload_n hX dL_law_2068 rfl (i := 1) rfl ?_
          refine z_aload_n hX dL_law_2069 rfl (i := 0) rfl ?_
          refine z_iload hX dL_law_2070 (i := 4) rfl ?_
          refine z_iconst hX (v := (1 : Int32)) dL_law_2072 (by decide) ?_
          refine z_iadd hX dL_law_2073 ?_
          obtain ⟨a1697, n1698, f1699, r1700, m1701, i1702, hw⟩ := hw
          refine z_iald hX dL_law_2074 r1700 m1701 i1702 ?_
          revert hw
          generalize f1699 (Int32.toNatClampNeg (p20 + (1 : Int32))) = v1703
          intro hw
          refine z_aload_n hX dL_law_2075 rfl (i := 3) rfl ?_
          refine z_invSX hX hd dL_law_2076 (hC 21 _ zm21 _ _ _ _ hw) q2184 q2185 zh0 q2186 q129 zn21 rfl (Nat.le_of_ble_eq_true rfl) (st := []) rfl (zcs8 (Nat.le_of_ble_eq_true rfl)) rfl (zkI (fun v1705 s1706 hw => ?_)) (zout hX hR hTb)
          refine z_istore hX dL_law_2079 (i := 5) (Nat.le_of_ble_eq_true rfl) rfl (ls2 := [some (va_rf (some b)), some (va_rf (some σ.2.1)), some (va_rf (some s5.2.1)), some (va_rf (some s13.2.1)), some (.int p20), some (.int v1705), none, none, none]) rfl ?_
          refine z_aload_n hX dL_law_2081 rfl (i := 2) rfl ?_
          refine z_aload_n hX dL_law_2082 rfl (i := 0) rfl ?_
          refine z_iload hX dL_law_2083 (i := 4) rfl ?_
          refine z_iconst hX (v := (1 : Int32)) dL_law_2085 (by decide) ?_
          refine z_iadd hX dL_law_2086 ?_
          obtain ⟨a1708, n1709, f1710, r1711, m1712, i1713, hw⟩ := hw
          refine z_iald hX dL_law_2087 r1711 m1712 i1713 ?_
          revert hw
          generalize f1710 (Int32.toNatClampNeg (p20 + (1 : Int32))) = v1714
          intro hw
          obtain ⟨a1719, f1720, r1721, m1722, hw⟩ := hw
          refine z_invV hX hd r1721 (ci := 4) rfl rfl m1722 dL_law_2088 (hC 285 _ zm285 _ _ _ _ hw) q3119 q3120 q3121 zh7 q3122 q136 zn285 rfl (Nat.le_of_ble_eq_true rfl) (st := []) rfl (zcs8 (Nat.le_of_ble_eq_true rfl)) rfl (zkI (fun v1716 s1717 hw => ?_)) (zout hX hR hTb)
          refine z_istore hX dL_law_2091 (i := 6) (Nat.le_of_ble_eq_true rfl) rfl (ls2 := [some (va_rf (some b)), some (va_rf (some σ.2.1)), some (va_rf (some s5.2.1)), some (va_rf (some s13.2.1)), some (.int p20), some (.int v1705), some (.int v1716), none, none]) rfl ?_
          refine z_aload_n hX dL_law_2093 rfl (i := 2) rfl ?_
          obtain ⟨a1726, f1727, r1728, m1729, hw⟩ := hw
          refine z_invV hX hd r1728 (ci := 4) rfl rfl m1729 dL_law_2094 (hC 156 _ zm156 _ _ _ _ hw) q2593 q2594 q2595 zh7 q2596 q136 zn156 rfl (Nat.le_of_ble_eq_true rfl) (st := []) rfl (zcs8 (Nat.le_of_ble_eq_true rfl)) rfl (zkI (fun v1723 s1724 hw => ?_)) (zout hX hR hTb)
          refine z_iload hX dL_law_2097 (i := 5) rfl ?_
          refine z_icmp_eq hX dL_law_2099 (tgt := 2104) rfl (fun c1730 => ?_) (fun c1730 => ?_)
          · have hw := hw.1 c1730
            refine z_iload hX dL_law_2104 (i := 5) rfl ?_
            refine zJ_w (P := fun (j : zS → Prop) => ∀  (s1731 : zS), j  s1731 → zW X s1731 2121 [some (va_rf (some b)), some (va_rf (some σ.2.1)), some (va_rf (some s5.2.1)), some (va_rf (some s13.2.1)), some (.int p20), none, none, none, none] []) hw (fun  s1731 hw => ?_) (fun j1732 hj1732 hw => ?_)
            · refine z_goto hX dL_law_2121 (tgt := 2124) rfl ?_
              exact hj39  _ hw
            · refine z_if_ne hX dL_law_2106 (tgt := 2121) rfl (fun c1733 => ?_) (fun c1733 => ?_)
              · have hw := hw.1 c1733
                refine z_sub (ls' := [some (va_rf (some b)), some (va_rf (some σ.2.1)), some (va_rf (some s5.2.1)), some (va_rf (some s13.2.1)), some (.int p20), none, none, none, none]) (zsS (zsS (zsS (zsS (zsS (zsN (zsN (zsN (zsN (zs0)))))))))) ?_
                exact hj1732  _ hw
              · have hw := hw.2 c1733
                refine z_aload_n hX dL_law_2109 rfl (i := 3) rfl ?_
                refine z_iconst hX (v := (0 : Int32)) dL_law_2110 (by decide) ?_
                obtain ⟨a1734, n1735, f1736, r1737, m1738, i1739, hw⟩ := hw
                refine z_lald hX dL_law_2111 r1737 m1738 i1739 ?_
                revert hw
                generalize f1736 (Int32.toNatClampNeg (0 : Int32)) = v1740
                intro hw
                refine z_iload hX dL_law_2112 (i := 6) rfl ?_
                refine z_i2l hX dL_law_2114 ?_
                refine z_lcmp hX dL_law_2115 ?_
                refine z_if_eq hX dL_law_2116 (tgt := 2121) rfl (fun c1742 => ?_) (fun c1742 => ?_)
                · have hw := hw.1 c1742
                  refine z_sub (ls' := [some (va_rf (some b)), some (va_rf (some σ.2.1)), some (va_rf (some s5.2.1)), some (va_rf (some s13.2.1)), some (.int p20), none, none, none, none]) (zsS (zsS (zsS (zsS (zsS (zsN (zsN (zsN (zsN (zs0)))))))))) ?_
                  exact hj1732  _ hw
                · have hw := hw.2 c1742
                  refine z_iconst hX (v := (0 : Int32)) dL_law_2119 (by decide) ?_
                  exact z_ireturn hX hR dL_law_2120 (zn_z hw.1) hw.2
          · have hw := hw.2 c1730
            refine z_iconst hX (v := (0 : Int32)) dL_law_2102 (by decide) ?_
            exact z_ireturn hX hR dL_law_2103 (zn_z hw.1) hw.2
        | j43 + 42, h, _ => exact absurd h (by omega)
