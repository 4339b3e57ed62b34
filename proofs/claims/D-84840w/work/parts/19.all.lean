section RTT
variable {B : Nat} {sa : Nat → Nat} {xv : Nat → Value} {D : va_G} {cA : Nat → ClassId} {H0 : Heap} {L : Nat} {xs : Nat → Int32} {args : Array Value} {s : State}
set_option maxHeartbeats 4000000 in
theorem mok_all (hS : pv_ST B sa xv H0 args s) (hX : pv_XC D s) (hlaw : (Jvm.Cond.codeWith ⟨"RegionHouseLaw", "law", "([I)Z"⟩ code 7 (some .boolean) []).before args s = true) (M : Nat) (hM : M < 442) : pv_MOK (mkE B sa xv D cA H0) (PP L xs) GG M args s := by
  rcases Nat.lt_or_ge M 221 with h221 | h221
  · rcases Nat.lt_or_ge M 110 with h110 | h110
    · rcases Nat.lt_or_ge M 55 with h55 | h55
      · rcases Nat.lt_or_ge M 27 with h27 | h27
        · rcases Nat.lt_or_ge M 13 with h13 | h13
          · rcases Nat.lt_or_ge M 6 with h6 | h6
            · rcases Nat.lt_or_ge M 3 with h3 | h3
              · rcases Nat.lt_or_ge M 1 with h1 | h1
                · obtain rfl : M = 0 := by omega
                  exact mok_0 hS hX
                · rcases Nat.lt_or_ge M 2 with h2 | h2
                  · obtain rfl : M = 1 := by omega
                    exact mok_1 hS hX
                  · obtain rfl : M = 2 := by omega
                    exact mok_2 hS hX
              · rcases Nat.lt_or_ge M 4 with h4 | h4
                · obtain rfl : M = 3 := by omega
                  exact mok_3 hS hX
                · rcases Nat.lt_or_ge M 5 with h5 | h5
                  · obtain rfl : M = 4 := by omega
                    exact mok_4 hS hX
                  · obtain rfl : M = 5 := by omega
                    exact mok_5 hS hX
            · rcases Nat.lt_or_ge M 9 with h9 | h9
              · rcases Nat.lt_or_ge M 7 with h7 | h7
                · obtain rfl : M = 6 := by omega
                  exact mok_6 hS hX
                · rcases Nat.lt_or_ge M 8 with h8 | h8
                  · obtain rfl : M = 7 := by omega
                    exact mok_7 hS hX
                  · obtain rfl : M = 8 := by omega
                    exact mok_8 hS hX
              · rcases Nat.lt_or_ge M 11 with h11 | h11
                · rcases Nat.lt_or_ge M 10 with h10 | h10
                  · obtain rfl : M = 9 := by omega
                    exact mok_9 hS hX
                  · obtain rfl : M = 10 := by omega
                    exact mok_10 hS hX
                · rcases Nat.lt_or_ge M 12 with h12 | h12
                  · obtain rfl : M = 11 := by omega
                    exact mok_11 hS hX
                  · obtain rfl : M = 12 := by omega
                    exact mok_12 hS hX
          · rcases Nat.lt_or_ge M 20 with h20 | h20
            · rcases Nat.lt_or_ge M 16 with h16 | h16
              · rcases Nat.lt_or_ge M 14 with h14 | h14
                · obtain rfl : M = 13 := by omega
                  exact mok_13 hS hX
                · rcases Nat.lt_or_ge M 15 with h15 | h15
                  · obtain rfl : M = 14 := by omega
                    exact mok_14 hS hX
                  · obtain rfl : M = 15 := by omega
                    exact mok_15 hS hX
              · rcases Nat.lt_or_ge M 18 with h18 | h18
                · rcases Nat.lt_or_ge M 17 with h17 | h17
                  · obtain rfl : M = 16 := by omega
                    exact mok_16 hS hX
                  · obtain rfl : M = 17 := by omega
                    exact mok_17 hS hX
                · rcases Nat.lt_or_ge M 19 with h19 | h19
                  · obtain rfl : M = 18 := by omega
                    exact mok_18 hS hX
                  · obtain rfl : M = 19 := by omega
                    exact mok_19 hS hX
            · rcases Nat.lt_or_ge M 23 with h23 | h23
              · rcases Nat.lt_or_ge M 21 with h21 | h21
                · obtain rfl : M = 20 := by omega
                  exact mok_20 hS hX
                · rcases Nat.lt_or_ge M 22 with h22 | h22
                  · obtain rfl : M = 21 := by omega
                    exact mok_21 hS hX
                  · obtain rfl : M = 22 := by omega
                    exact mok_22 hS hX
              · rcases Nat.lt_or_ge M 25 with h25 | h25
                · rcases Nat.lt_or_ge M 24 with h24 | h24
                  · obtain rfl : M = 23 := by omega
                    exact mok_23 hS hX
                  · obtain rfl : M = 24 := by omega
                    exact mok_24 hS hX
                · rcases Nat.lt_or_ge M 26 with h26 | h26
                  · obtain rfl : M = 25 := by omega
                    exact mok_25 hS hX
                  · obtain rfl : M = 26 := by omega
                    exact mok_26 hS hX
        · rcases Nat.lt_or_ge M 41 with h41 | h41
          · rcases Nat.lt_or_ge M 34 with h34 | h34
            · rcases Nat.lt_or_ge M 30 with h30 | h30
              · rcases Nat.lt_or_ge M 28 with h28 | h28
                · obtain rfl : M = 27 := by omega
                  exact mok_27 hS hX
                · rcases Nat.lt_or_ge M 29 with h29 | h29
                  · obtain rfl : M = 28 := by omega
                    exact mok_28 hS hX
                  · obtain rfl : M = 29 := by omega
                    exact mok_29 hS hX
              · rcases Nat.lt_or_ge M 32 with h32 | h32
                · rcases Nat.lt_or_ge M 31 with h31 | h31
                  · obtain rfl : M = 30 := by omega
                    exact mok_30 hS hX
                  · obtain rfl : M = 31 := by omega
                    exact mok_31 hS hX
                · rcases Nat.lt_or_ge M 33 with h33 | h33
                  · obtain rfl : M = 32 := by omega
                    exact mok_32 hS hX
                  · obtain rfl : M = 33 := by omega
                    exact mok_33 hS hX
            · rcases Nat.lt_or_ge M 37 with h37 | h37
              · rcases Nat.lt_or_ge M 35 with h35 | h35
                · obtain rfl : M = 34 := by omega
                  exact mok_34 hS hX
                · rcases Nat.lt_or_ge M 36 with h36 | h36
                  · obtain rfl : M = 35 := by omega
                    exact mok_35 hS hX
                  · obtain rfl : M = 36 := by omega
                    exact mok_36 hS hX
              · rcases Nat.lt_or_ge M 39 with h39 | h39
                · rcases Nat.lt_or_ge M 38 with h38 | h38
                  · obtain rfl : M = 37 := by omega
                    exact mok_37 hS hX
                  · obtain rfl : M = 38 := by omega
                    exact mok_38 hS hX
                · rcases Nat.lt_or_ge M 40 with h40 | h40
                  · obtain rfl : M = 39 := by omega
                    exact mok_39 hS hX
                  · obtain rfl : M = 40 := by omega
                    exact mok_40 hS hX
          · rcases Nat.lt_or_ge M 48 with h48 | h48
            · rcases Nat.lt_or_ge M 44 with h44 | h44
              · rcases Nat.lt_or_ge M 42 with h42 | h42
                · obtain rfl : M = 41 := by omega
                  exact mok_41 hS hX
                · rcases Nat.lt_or_ge M 43 with h43 | h43
                  · obtain rfl : M = 42 := by omega
                    exact mok_42 hS hX
                  · obtain rfl : M = 43 := by omega
                    exact mok_43 hS hX
              · rcases Nat.lt_or_ge M 46 with h46 | h46
                · rcases Nat.lt_or_ge M 45 with h45 | h45
                  · obtain rfl : M = 44 := by omega
                    exact mok_44 hS hX
                  · obtain rfl : M = 45 := by omega
                    exact mok_45 hS hX
                · rcases Nat.lt_or_ge M 47 with h47 | h47
                  · obtain rfl : M = 46 := by omega
                    exact mok_46 hS hX
                  · obtain rfl : M = 47 := by omega
                    exact mok_47 hS hX
            · rcases Nat.lt_or_ge M 51 with h51 | h51
              · rcases Nat.lt_or_ge M 49 with h49 | h49
                · obtain rfl : M = 48 := by omega
                  exact mok_48 hS hX
                · rcases Nat.lt_or_ge M 50 with h50 | h50
                  · obtain rfl : M = 49 := by omega
                    exact mok_49 hS hX
                  · obtain rfl : M = 50 := by omega
                    exact mok_50 hS hX
              · rcases Nat.lt_or_ge M 53 with h53 | h53
                · rcases Nat.lt_or_ge M 52 with h52 | h52
                  · obtain rfl : M = 51 := by omega
                    exact mok_51 hS hX
                  · obtain rfl : M = 52 := by omega
                    exact mok_52 hS hX
                · rcases Nat.lt_or_ge M 54 with h54 | h54
                  · obtain rfl : M = 53 := by omega
                    exact mok_53 hS hX
                  · obtain rfl : M = 54 := by omega
                    exact mok_54 hS hX
      · rcases Nat.lt_or_ge M 82 with h82 | h82
        · rcases Nat.lt_or_ge M 68 with h68 | h68
          · rcases Nat.lt_or_ge M 61 with h61 | h61
            · rcases Nat.lt_or_ge M 58 with h58 | h58
              · rcases Nat.lt_or_ge M 56 with h56 | h56
                · obtain rfl : M = 55 := by omega
                  exact mok_55 hS hX
                · rcases Nat.lt_or_ge M 57 with h57 | h57
                  · obtain rfl : M = 56 := by omega
                    exact mok_56 hS hX
                  · obtain rfl : M = 57 := by omega
                    exact mok_57 hS hX
              · rcases Nat.lt_or_ge M 59 with h59 | h59
                · obtain rfl : M = 58 := by omega
                  exact mok_58 hS hX
                · rcases Nat.lt_or_ge M 60 with h60 | h60
                  · obtain rfl : M = 59 := by omega
                    exact mok_59 hS hX
                  · obtain rfl : M = 60 := by omega
                    exact mok_60 hS hX
            · rcases Nat.lt_or_ge M 64 with h64 | h64
              · rcases Nat.lt_or_ge M 62 with h62 | h62
                · obtain rfl : M = 61 := by omega
                  exact mok_61 hS hX
                · rcases Nat.lt_or_ge M 63 with h63 | h63
                  · obtain rfl : M = 62 := by omega
                    exact mok_62 hS hX
                  · obtain rfl : M = 63 := by omega
                    exact mok_63 hS hX
              · rcases Nat.lt_or_ge M 66 with h66 | h66
                · rcases Nat.lt_or_ge M 65 with h65 | h65
                  · obtain rfl : M = 64 := by omega
                    exact mok_64 hS hX
                  · obtain rfl : M = 65 := by omega
                    exact mok_65 hS hX
                · rcases Nat.lt_or_ge M 67 with h67 | h67
                  · obtain rfl : M = 66 := by omega
                    exact mok_66 hS hX
                  · obtain rfl : M = 67 := by omega
                    exact mok_67 hS hX
          · rcases Nat.lt_or_ge M 75 with h75 | h75
            · rcases Nat.lt_or_ge M 71 with h71 | h71
              · rcases Nat.lt_or_ge M 69 with h69 | h69
                · obtain rfl : M = 68 := by omega
                  exact mok_68 hS hX
                · rcases Nat.lt_or_ge M 70 with h70 | h70
                  · obtain rfl : M = 69 := by omega
                    exact mok_69 hS hX
                  · obtain rfl : M = 70 := by omega
                    exact mok_70 hS hX
              · rcases Nat.lt_or_ge M 73 with h73 | h73
                · rcases Nat.lt_or_ge M 72 with h72 | h72
                  · obtain rfl : M = 71 := by omega
                    exact mok_71 hS hX
                  · obtain rfl : M = 72 := by omega
                    exact mok_72 hS hX
                · rcases Nat.lt_or_ge M 74 with h74 | h74
                  · obtain rfl : M = 73 := by omega
                    exact mok_73 hS hX
                  · obtain rfl : M = 74 := by omega
                    exact mok_74 hS hX
            · rcases Nat.lt_or_ge M 78 with h78 | h78
              · rcases Nat.lt_or_ge M 76 with h76 | h76
                · obtain rfl : M = 75 := by omega
                  exact mok_75 hS hX
                · rcases Nat.lt_or_ge M 77 with h77 | h77
                  · obtain rfl : M = 76 := by omega
                    exact mok_76 hS hX
                  · obtain rfl : M = 77 := by omega
                    exact mok_77 hS hX
              · rcases Nat.lt_or_ge M 80 with h80 | h80
                · rcases Nat.lt_or_ge M 79 with h79 | h79
                  · obtain rfl : M = 78 := by omega
                    exact mok_78 hS hX
                  · obtain rfl : M = 79 := by omega
                    exact mok_79 hS hX
                · rcases Nat.lt_or_ge M 81 with h81 | h81
                  · obtain rfl : M = 80 := by omega
                    exact mok_80 hS hX
                  · obtain rfl : M = 81 := by omega
                    exact mok_81 hS hX
        · rcases Nat.lt_or_ge M 96 with h96 | h96
          · rcases Nat.lt_or_ge M 89 with h89 | h89
            · rcases Nat.lt_or_ge M 85 with h85 | h85
              · rcases Nat.lt_or_ge M 83 with h83 | h83
                · obtain rfl : M = 82 := by omega
                  exact mok_82 hS hX
                · rcases Nat.lt_or_ge M 84 with h84 | h84
                  · obtain rfl : M = 83 := by omega
                    exact mok_83 hS hX
                  · obtain rfl : M = 84 := by omega
                    exact mok_84 hS hX
              · rcases Nat.lt_or_ge M 87 with h87 | h87
                · rcases Nat.lt_or_ge M 86 with h86 | h86
                  · obtain rfl : M = 85 := by omega
                    exact mok_85 hS hX
                  · obtain rfl : M = 86 := by omega
                    exact mok_86 hS hX
                · rcases Nat.lt_or_ge M 88 with h88 | h88
                  · obtain rfl : M = 87 := by omega
                    exact mok_87 hS hX
                  · obtain rfl : M = 88 := by omega
                    exact mok_88 hS hX
            · rcases Nat.lt_or_ge M 92 with h92 | h92
              · rcases Nat.lt_or_ge M 90 with h90 | h90
                · obtain rfl : M = 89 := by omega
                  exact mok_89 hS hX
                · rcases Nat.lt_or_ge M 91 with h91 | h91
                  · obtain rfl : M = 90 := by omega
                    exact mok_90 hS hX
                  · obtain rfl : M = 91 := by omega
                    exact mok_91 hS hX
              · rcases Nat.lt_or_ge M 94 with h94 | h94
                · rcases Nat.lt_or_ge M 93 with h93 | h93
                  · obtain rfl : M = 92 := by omega
                    exact mok_92 hS hX
                  · obtain rfl : M = 93 := by omega
                    exact mok_93 hS hX
                · rcases Nat.lt_or_ge M 95 with h95 | h95
                  · obtain rfl : M = 94 := by omega
                    exact mok_94 hS hX
                  · obtain rfl : M = 95 := by omega
                    exact mok_95 hS hX
          · rcases Nat.lt_or_ge M 103 with h103 | h103
            · rcases Nat.lt_or_ge M 99 with h99 | h99
              · rcases Nat.lt_or_ge M 97 with h97 | h97
                · obtain rfl : M = 96 := by omega
                  exact mok_96 hS hX
                · rcases Nat.lt_or_ge M 98 with h98 | h98
                  · obtain rfl : M = 97 := by omega
                    exact mok_97 hS hX
                  · obtain rfl : M = 98 := by omega
                    exact mok_98 hS hX
              · rcases Nat.lt_or_ge M 101 with h101 | h101
                · rcases Nat.lt_or_ge M 100 with h100 | h100
                  · obtain rfl : M = 99 := by omega
                    exact mok_99 hS hX
                  · obtain rfl : M = 100 := by omega
                    exact mok_100 hS hX
                · rcases Nat.lt_or_ge M 102 with h102 | h102
                  · obtain rfl : M = 101 := by omega
                    exact mok_101 hS hX
                  · obtain rfl : M = 102 := by omega
                    exact mok_102 hS hX
            · rcases Nat.lt_or_ge M 106 with h106 | h106
              · rcases Nat.lt_or_ge M 104 with h104 | h104
                · obtain rfl : M = 103 := by omega
                  exact mok_103 hS hX
                · rcases Nat.lt_or_ge M 105 with h105 | h105
                  · obtain rfl : M = 104 := by omega
                    exact mok_104 hS hX
                  · obtain rfl : M = 105 := by omega
                    exact mok_105 hS hX
              · rcases Nat.lt_or_ge M 108 with h108 | h108
                · rcases Nat.lt_or_ge M 107 with h107 | h107
                  · obtain rfl : M = 106 := by omega
                    exact mok_106 hS hX
                  · obtain rfl : M = 107 := by omega
                    exact mok_107 hS hX
                · rcases Nat.lt_or_ge M 109 with h109 | h109
                  · obtain rfl : M = 108 := by omega
                    exact mok_108 hS hX
                  · obtain rfl : M = 109 := by omega
                    exact mok_109 hS hX
    · rcases Nat.lt_or_ge M 165 with h165 | h165
      · rcases Nat.lt_or_ge M 137 with h137 | h137
        · rcases Nat.lt_or_ge M 123 with h123 | h123
          · rcases Nat.lt_or_ge M 116 with h116 | h116
            · rcases Nat.lt_or_ge M 113 with h113 | h113
              · rcases Nat.lt_or_ge M 111 with h111 | h111
                · obtain rfl : M = 110 := by omega
                  exact mok_110 hS hX
                · rcases Nat.lt_or_ge M 112 with h112 | h112
                  · obtain rfl : M = 111 := by omega
                    exact mok_111 hS hX
                  · obtain rfl : M = 112 := by omega
                    exact mok_112 hS hX
              · rcases Nat.lt_or_ge M 114 with h114 | h114
                · obtain rfl : M = 113 := by omega
                  exact mok_113 hS hX
                · rcases Nat.lt_or_ge M 115 with h115 | h115
                  · obtain rfl : M = 114 := by omega
                    exact mok_114 hS hX
                  · obtain rfl : M = 115 := by omega
                    exact mok_115 hS hX
            · rcases Nat.lt_or_ge M 119 with h119 | h119
              · rcases Nat.lt_or_ge M 117 with h117 | h117
                · obtain rfl : M = 116 := by omega
                  exact mok_116 hS hX
                · rcases Nat.lt_or_ge M 118 with h118 | h118
                  · obtain rfl : M = 117 := by omega
                    exact mok_117 hS hX
                  · obtain rfl : M = 118 := by omega
                    exact mok_118 hS hX
              · rcases Nat.lt_or_ge M 121 with h121 | h121
                · rcases Nat.lt_or_ge M 120 with h120 | h120
                  · obtain rfl : M = 119 := by omega
                    exact mok_119 hS hX
                  · obtain rfl : M = 120 := by omega
                    exact mok_120 hS hX
                · rcases Nat.lt_or_ge M 122 with h122 | h122
                  · obtain rfl : M = 121 := by omega
                    exact mok_121 hS hX
                  · obtain rfl : M = 122 := by omega
                    exact mok_122 hS hX
          · rcases Nat.lt_or_ge M 130 with h130 | h130
            · rcases Nat.lt_or_ge M 126 with h126 | h126
              · rcases Nat.lt_or_ge M 124 with h124 | h124
                · obtain rfl : M = 123 := by omega
                  exact mok_123 hS hX
                · rcases Nat.lt_or_ge M 125 with h125 | h125
                  · obtain rfl : M = 124 := by omega
                    exact mok_124 hS hX
                  · obtain rfl : M = 125 := by omega
                    exact mok_125 hS hX
              · rcases Nat.lt_or_ge M 128 with h128 | h128
                · rcases Nat.lt_or_ge M 127 with h127 | h127
                  · obtain rfl : M = 126 := by omega
                    exact mok_126 hS hX
                  · obtain rfl : M = 127 := by omega
                    exact mok_127 hS hX
                · rcases Nat.lt_or_ge M 129 with h129 | h129
                  · obtain rfl : M = 128 := by omega
                    exact mok_128 hS hX
                  · obtain rfl : M = 129 := by omega
                    exact mok_129 hS hX
            · rcases Nat.lt_or_ge M 133 with h133 | h133
              · rcases Nat.lt_or_ge M 131 with h131 | h131
                · obtain rfl : M = 130 := by omega
                  exact mok_130 hS hX
                · rcases Nat.lt_or_ge M 132 with h132 | h132
                  · obtain rfl : M = 131 := by omega
                    exact mok_131 hS hX
                  · obtain rfl : M = 132 := by omega
                    exact mok_132 hS hX
              · rcases Nat.lt_or_ge M 135 with h135 | h135
                · rcases Nat.lt_or_ge M 134 with h134 | h134
                  · obtain rfl : M = 133 := by omega
                    exact mok_133 hS hX
                  · obtain rfl : M = 134 := by omega
                    exact mok_134 hS hX
                · rcases Nat.lt_or_ge M 136 with h136 | h136
                  · obtain rfl : M = 135 := by omega
                    exact mok_135 hS hX
                  · obtain rfl : M = 136 := by omega
                    exact mok_136 hS hX
        · rcases Nat.lt_or_ge M 151 with h151 | h151
          · rcases Nat.lt_or_ge M 144 with h144 | h144
            · rcases Nat.lt_or_ge M 140 with h140 | h140
              · rcases Nat.lt_or_ge M 138 with h138 | h138
                · obtain rfl : M = 137 := by omega
                  exact mok_137 hS hX
                · rcases Nat.lt_or_ge M 139 with h139 | h139
                  · obtain rfl : M = 138 := by omega
                    exact mok_138 hS hX
                  · obtain rfl : M = 139 := by omega
                    exact mok_139 hS hX
              · rcases Nat.lt_or_ge M 142 with h142 | h142
                · rcases Nat.lt_or_ge M 141 with h141 | h141
                  · obtain rfl : M = 140 := by omega
                    exact mok_140 hS hX
                  · obtain rfl : M = 141 := by omega
                    exact mok_141 hS hX
                · rcases Nat.lt_or_ge M 143 with h143 | h143
                  · obtain rfl : M = 142 := by omega
                    exact mok_142 hS hX
                  · obtain rfl : M = 143 := by omega
                    exact mok_143 hS hX
            · rcases Nat.lt_or_ge M 147 with h147 | h147
              · rcases Nat.lt_or_ge M 145 with h145 | h145
                · obtain rfl : M = 144 := by omega
                  exact mok_144 hS hX
                · rcases Nat.lt_or_ge M 146 with h146 | h146
                  · obtain rfl : M = 145 := by omega
                    exact mok_145 hS hX
                  · obtain rfl : M = 146 := by omega
                    exact mok_146 hS hX
              · rcases Nat.lt_or_ge M 149 with h149 | h149
                · rcases Nat.lt_or_ge M 148 with h148 | h148
                  · obtain rfl : M = 147 := by omega
                    exact mok_147 hS hX
                  · obtain rfl : M = 148 := by omega
                    exact mok_148 hS hX
                · rcases Nat.lt_or_ge M 150 with h150 | h150
                  · obtain rfl : M = 149 := by omega
                    exact mok_149 hS hX
                  · obtain rfl : M = 150 := by omega
                    exact mok_150 hS hX
          · rcases Nat.lt_or_ge M 158 with h158 | h158
            · rcases Nat.lt_or_ge M 154 with h154 | h154
              · rcases Nat.lt_or_ge M 152 with h152 | h152
                · obtain rfl : M = 151 := by omega
                  exact mok_151 hS hX
                · rcases Nat.lt_or_ge M 153 with h153 | h153
                  · obtain rfl : M = 152 := by omega
                    exact mok_152 hS hX
                  · obtain rfl : M = 153 := by omega
                    exact mok_153 hS hX
              · rcases Nat.lt_or_ge M 156 with h156 | h156
                · rcases Nat.lt_or_ge M 155 with h155 | h155
                  · obtain rfl : M = 154 := by omega
                    exact mok_154 hS hX
                  · obtain rfl : M = 155 := by omega
                    exact mok_155 hS hX
                · rcases Nat.lt_or_ge M 157 with h157 | h157
                  · obtain rfl : M = 156 := by omega
                    exact mok_156 hS hX
                  · obtain rfl : M = 157 := by omega
                    exact mok_157 hS hX
            · rcases Nat.lt_or_ge M 161 with h161 | h161
              · rcases Nat.lt_or_ge M 159 with h159 | h159
                · obtain rfl : M = 158 := by omega
                  exact mok_158 hS hX
                · rcases Nat.lt_or_ge M 160 with h160 | h160
                  · obtain rfl : M = 159 := by omega
                    exact mok_159 hS hX
                  · obtain rfl : M = 160 := by omega
                    exact mok_160 hS hX
              · rcases Nat.lt_or_ge M 163 with h163 | h163
                · rcases Nat.lt_or_ge M 162 with h162 | h162
                  · obtain rfl : M = 161 := by omega
                    exact mok_161 hS hX
                  · obtain rfl : M = 162 := by omega
                    exact mok_162 hS hX
                · rcases Nat.lt_or_ge M 164 with h164 | h164
                  · obtain rfl : M = 163 := by omega
                    exact mok_163 hS hX
                  · obtain rfl : M = 164 := by omega
                    exact mok_164 hS hX
      · rcases Nat.lt_or_ge M 193 with h193 | h193
        · rcases Nat.lt_or_ge M 179 with h179 | h179
          · rcases Nat.lt_or_ge M 172 with h172 | h172
            · rcases Nat.lt_or_ge M 168 with h168 | h168
              · rcases Nat.lt_or_ge M 166 with h166 | h166
                · obtain rfl : M = 165 := by omega
                  exact mok_165 hS hX
                · rcases Nat.lt_or_ge M 167 with h167 | h167
                  · obtain rfl : M = 166 := by omega
                    exact mok_166 hS hX
                  · obtain rfl : M = 167 := by omega
                    exact mok_167 hS hX
              · rcases Nat.lt_or_ge M 170 with h170 | h170
                · rcases Nat.lt_or_ge M 169 with h169 | h169
                  · obtain rfl : M = 168 := by omega
                    exact mok_168 hS hX
                  · obtain rfl : M = 169 := by omega
                    exact mok_169 hS hX
                · rcases Nat.lt_or_ge M 171 with h171 | h171
                  · obtain rfl : M = 170 := by omega
                    exact mok_170 hS hX
                  · obtain rfl : M = 171 := by omega
                    exact mok_171 hS hX
            · rcases Nat.lt_or_ge M 175 with h175 | h175
              · rcases Nat.lt_or_ge M 173 with h173 | h173
                · obtain rfl : M = 172 := by omega
                  exact mok_172 hS hX
                · rcases Nat.lt_or_ge M 174 with h174 | h174
                  · obtain rfl : M = 173 := by omega
                    exact mok_173 hS hX
                  · obtain rfl : M = 174 := by omega
                    exact mok_174 hS hX
              · rcases Nat.lt_or_ge M 177 with h177 | h177
                · rcases Nat.lt_or_ge M 176 with h176 | h176
                  · obtain rfl : M = 175 := by omega
                    exact mok_175 hS hX
                  · obtain rfl : M = 176 := by omega
                    exact mok_176 hS hX
                · rcases Nat.lt_or_ge M 178 with h178 | h178
                  · obtain rfl : M = 177 := by omega
                    exact mok_177 hS hX
                  · obtain rfl : M = 178 := by omega
                    exact mok_178 hS hX
          · rcases Nat.lt_or_ge M 186 with h186 | h186
            · rcases Nat.lt_or_ge M 182 with h182 | h182
              · rcases Nat.lt_or_ge M 180 with h180 | h180
                · obtain rfl : M = 179 := by omega
                  exact mok_179 hS hX
                · rcases Nat.lt_or_ge M 181 with h181 | h181
                  · obtain rfl : M = 180 := by omega
                    exact mok_180 hS hX
                  · obtain rfl : M = 181 := by omega
                    exact mok_181 hS hX
              · rcases Nat.lt_or_ge M 184 with h184 | h184
                · rcases Nat.lt_or_ge M 183 with h183 | h183
                  · obtain rfl : M = 182 := by omega
                    exact mok_182 hS hX
                  · obtain rfl : M = 183 := by omega
                    exact mok_183 hS hX
                · rcases Nat.lt_or_ge M 185 with h185 | h185
                  · obtain rfl : M = 184 := by omega
                    exact mok_184 hS hX
                  · obtain rfl : M = 185 := by omega
                    exact mok_185 hS hX
            · rcases Nat.lt_or_ge M 189 with h189 | h189
              · rcases Nat.lt_or_ge M 187 with h187 | h187
                · obtain rfl : M = 186 := by omega
                  exact mok_186 hS hX
                · rcases Nat.lt_or_ge M 188 with h188 | h188
                  · obtain rfl : M = 187 := by omega
                    exact mok_187 hS hX
                  · obtain rfl : M = 188 := by omega
                    exact mok_188 hS hX
              · rcases Nat.lt_or_ge M 191 with h191 | h191
                · rcases Nat.lt_or_ge M 190 with h190 | h190
                  · obtain rfl : M = 189 := by omega
                    exact mok_189 hS hX
                  · obtain rfl : M = 190 := by omega
                    exact mok_190 hS hX
                · rcases Nat.lt_or_ge M 192 with h192 | h192
                  · obtain rfl : M = 191 := by omega
                    exact mok_191 hS hX
                  · obtain rfl : M = 192 := by omega
                    exact mok_192 hS hX
        · rcases Nat.lt_or_ge M 207 with h207 | h207
          · rcases Nat.lt_or_ge M 200 with h200 | h200
            · rcases Nat.lt_or_ge M 196 with h196 | h196
              · rcases Nat.lt_or_ge M 194 with h194 | h194
                · obtain rfl : M = 193 := by omega
                  exact mok_193 hS hX
                · rcases Nat.lt_or_ge M 195 with h195 | h195
                  · obtain rfl : M = 194 := by omega
                    exact mok_194 hS hX
                  · obtain rfl : M = 195 := by omega
                    exact mok_195 hS hX
              · rcases Nat.lt_or_ge M 198 with h198 | h198
                · rcases Nat.lt_or_ge M 197 with h197 | h197
                  · obtain rfl : M = 196 := by omega
                    exact mok_196 hS hX
                  · obtain rfl : M = 197 := by omega
                    exact mok_197 hS hX
                · rcases Nat.lt_or_ge M 199 with h199 | h199
                  · obtain rfl : M = 198 := by omega
                    exact mok_198 hS hX
                  · obtain rfl : M = 199 := by omega
                    exact mok_199 hS hX
            · rcases Nat.lt_or_ge M 203 with h203 | h203
              · rcases Nat.lt_or_ge M 201 with h201 | h201
                · obtain rfl : M = 200 := by omega
                  exact mok_200 hS hX
                · rcases Nat.lt_or_ge M 202 with h202 | h202
                  · obtain rfl : M = 201 := by omega
                    exact mok_201 hS hX
                  · obtain rfl : M = 202 := by omega
                    exact mok_202 hS hX
              · rcases Nat.lt_or_ge M 205 with h205 | h205
                · rcases Nat.lt_or_ge M 204 with h204 | h204
                  · obtain rfl : M = 203 := by omega
                    exact mok_203 hS hX
                  · obtain rfl : M = 204 := by omega
                    exact mok_204 hS hX
                · rcases Nat.lt_or_ge M 206 with h206 | h206
                  · obtain rfl : M = 205 := by omega
                    exact mok_205 hS hX
                  · obtain rfl : M = 206 := by omega
                    exact mok_206 hS hX
          · rcases Nat.lt_or_ge M 214 with h214 | h214
            · rcases Nat.lt_or_ge M 210 with h210 | h210
              · rcases Nat.lt_or_ge M 208 with h208 | h208
                · obtain rfl : M = 207 := by omega
                  exact mok_207 hS hX
                · rcases Nat.lt_or_ge M 209 with h209 | h209
                  · obtain rfl : M = 208 := by omega
                    exact mok_208 hS hX
                  · obtain rfl : M = 209 := by omega
                    exact mok_209 hS hX
              · rcases Nat.lt_or_ge M 212 with h212 | h212
                · rcases Nat.lt_or_ge M 211 with h211 | h211
                  · obtain rfl : M = 210 := by omega
                    exact mok_210 hS hX
                  · obtain rfl : M = 211 := by omega
                    exact mok_211 hS hX
                · rcases Nat.lt_or_ge M 213 with h213 | h213
                  · obtain rfl : M = 212 := by omega
                    exact mok_212 hS hX
                  · obtain rfl : M = 213 := by omega
                    exact mok_213 hS hX
            · rcases Nat.lt_or_ge M 217 with h217 | h217
              · rcases Nat.lt_or_ge M 215 with h215 | h215
                · obtain rfl : M = 214 := by omega
                  exact mok_214 hS hX
                · rcases Nat.lt_or_ge M 216 with h216 | h216
                  · obtain rfl : M = 215 := by omega
                    exact mok_215 hS hX
                  · obtain rfl : M = 216 := by omega
                    exact mok_216 hS hX
              · rcases Nat.lt_or_ge M 219 with h219 | h219
                · rcases Nat.lt_or_ge M 218 with h218 | h218
                  · obtain rfl : M = 217 := by omega
                    exact mok_217 hS hX
                  · obtain rfl : M = 218 := by omega
                    exact mok_218 hS hX
                · rcases Nat.lt_or_ge M 220 with h220 | h220
                  · obtain rfl : M = 219 := by omega
                    exact mok_219 hS hX
                  · obtain rfl : M = 220 := by omega
                    exact mok_220 hS hX
  · rcases Nat.lt_or_ge M 331 with h331 | h331
    · rcases Nat.lt_or_ge M 276 with h276 | h276
      · rcases Nat.lt_or_ge M 248 with h248 | h248
        · rcases Nat.lt_or_ge M 234 with h234 | h234
          · rcases Nat.lt_or_ge M 227 with h227 | h227
            · rcases Nat.lt_or_ge M 224 with h224 | h224
              · rcases Nat.lt_or_ge M 222 with h222 | h222
                · obtain rfl : M = 221 := by omega
                  exact mok_221 hS hX
                · rcases Nat.lt_or_ge M 223 with h223 | h223
                  · obtain rfl : M = 222 := by omega
                    exact mok_222 hS hX
                  · obtain rfl : M = 223 := by omega
                    exact mok_223 hS hX
              · rcases Nat.lt_or_ge M 225 with h225 | h225
                · obtain rfl : M = 224 := by omega
                  exact mok_224 hS hX
                · rcases Nat.lt_or_ge M 226 with h226 | h226
                  · obtain rfl : M = 225 := by omega
                    exact mok_225 hS hX
                  · obtain rfl : M = 226 := by omega
                    exact mok_226 hS hX
            · rcases Nat.lt_or_ge M 230 with h230 | h230
              · rcases Nat.lt_or_ge M 228 with h228 | h228
                · obtain rfl : M = 227 := by omega
                  exact mok_227 hS hX
                · rcases Nat.lt_or_ge M 229 with h229 | h229
                  · obtain rfl : M = 228 := by omega
                    exact mok_228 hS hX
                  · obtain rfl : M = 229 := by omega
                    exact mok_229 hS hX
              · rcases Nat.lt_or_ge M 232 with h232 | h232
                · rcases Nat.lt_or_ge M 231 with h231 | h231
                  · obtain rfl : M = 230 := by omega
                    exact mok_230 hS hX
                  · obtain rfl : M = 231 := by omega
                    exact mok_231 hS hX
                · rcases Nat.lt_or_ge M 233 with h233 | h233
                  · obtain rfl : M = 232 := by omega
                    exact mok_232 hS hX
                  · obtain rfl : M = 233 := by omega
                    exact mok_233 hS hX
          · rcases Nat.lt_or_ge M 241 with h241 | h241
            · rcases Nat.lt_or_ge M 237 with h237 | h237
              · rcases Nat.lt_or_ge M 235 with h235 | h235
                · obtain rfl : M = 234 := by omega
                  exact mok_234 hS hX
                · rcases Nat.lt_or_ge M 236 with h236 | h236
                  · obtain rfl : M = 235 := by omega
                    exact mok_235 hS hX
                  · obtain rfl : M = 236 := by omega
                    exact mok_236 hS hX
              · rcases Nat.lt_or_ge M 239 with h239 | h239
                · rcases Nat.lt_or_ge M 238 with h238 | h238
                  · obtain rfl : M = 237 := by omega
                    exact mok_237 hS hX
                  · obtain rfl : M = 238 := by omega
                    exact mok_238 hS hX
                · rcases Nat.lt_or_ge M 240 with h240 | h240
                  · obtain rfl : M = 239 := by omega
                    exact mok_239 hS hX
                  · obtain rfl : M = 240 := by omega
                    exact mok_240 hS hX
            · rcases Nat.lt_or_ge M 244 with h244 | h244
              · rcases Nat.lt_or_ge M 242 with h242 | h242
                · obtain rfl : M = 241 := by omega
                  exact mok_241 hS hX
                · rcases Nat.lt_or_ge M 243 with h243 | h243
                  · obtain rfl : M = 242 := by omega
                    exact mok_242 hS hX
                  · obtain rfl : M = 243 := by omega
                    exact mok_243 hS hX
              · rcases Nat.lt_or_ge M 246 with h246 | h246
                · rcases Nat.lt_or_ge M 245 with h245 | h245
                  · obtain rfl : M = 244 := by omega
                    exact mok_244 hS hX
                  · obtain rfl : M = 245 := by omega
                    exact mok_245 hS hX
                · rcases Nat.lt_or_ge M 247 with h247 | h247
                  · obtain rfl : M = 246 := by omega
                    exact mok_246 hS hX
                  · obtain rfl : M = 247 := by omega
                    exact mok_247 hS hX
        · rcases Nat.lt_or_ge M 262 with h262 | h262
          · rcases Nat.lt_or_ge M 255 with h255 | h255
            · rcases Nat.lt_or_ge M 251 with h251 | h251
              · rcases Nat.lt_or_ge M 249 with h249 | h249
                · obtain rfl : M = 248 := by omega
                  exact mok_248 hS hX
                · rcases Nat.lt_or_ge M 250 with h250 | h250
                  · obtain rfl : M = 249 := by omega
                    exact mok_249 hS hX
                  · obtain rfl : M = 250 := by omega
                    exact mok_250 hS hX
              · rcases Nat.lt_or_ge M 253 with h253 | h253
                · rcases Nat.lt_or_ge M 252 with h252 | h252
                  · obtain rfl : M = 251 := by omega
                    exact mok_251 hS hX
                  · obtain rfl : M = 252 := by omega
                    exact mok_252 hS hX
                · rcases Nat.lt_or_ge M 254 with h254 | h254
                  · obtain rfl : M = 253 := by omega
                    exact mok_253 hS hX
                  · obtain rfl : M = 254 := by omega
                    exact mok_254 hS hX
            · rcases Nat.lt_or_ge M 258 with h258 | h258
              · rcases Nat.lt_or_ge M 256 with h256 | h256
                · obtain rfl : M = 255 := by omega
                  exact mok_255 hS hX
                · rcases Nat.lt_or_ge M 257 with h257 | h257
                  · obtain rfl : M = 256 := by omega
                    exact mok_256 hS hX
                  · obtain rfl : M = 257 := by omega
                    exact mok_257 hS hX
              · rcases Nat.lt_or_ge M 260 with h260 | h260
                · rcases Nat.lt_or_ge M 259 with h259 | h259
                  · obtain rfl : M = 258 := by omega
                    exact mok_258 hS hX
                  · obtain rfl : M = 259 := by omega
                    exact mok_259 hS hX
                · rcases Nat.lt_or_ge M 261 with h261 | h261
                  · obtain rfl : M = 260 := by omega
                    exact mok_260 hS hX
                  · obtain rfl : M = 261 := by omega
                    exact mok_261 hS hX
          · rcases Nat.lt_or_ge M 269 with h269 | h269
            · rcases Nat.lt_or_ge M 265 with h265 | h265
              · rcases Nat.lt_or_ge M 263 with h263 | h263
                · obtain rfl : M = 262 := by omega
                  exact mok_262 hS hX
                · rcases Nat.lt_or_ge M 264 with h264 | h264
                  · obtain rfl : M = 263 := by omega
                    exact mok_263 hS hX
                  · obtain rfl : M = 264 := by omega
                    exact mok_264 hS hX
              · rcases Nat.lt_or_ge M 267 with h267 | h267
                · rcases Nat.lt_or_ge M 266 with h266 | h266
                  · obtain rfl : M = 265 := by omega
                    exact mok_265 hS hX
                  · obtain rfl : M = 266 := by omega
                    exact mok_266 hS hX
                · rcases Nat.lt_or_ge M 268 with h268 | h268
                  · obtain rfl : M = 267 := by omega
                    exact mok_267 hS hX
                  · obtain rfl : M = 268 := by omega
                    exact mok_268 hS hX
            · rcases Nat.lt_or_ge M 272 with h272 | h272
              · rcases Nat.lt_or_ge M 270 with h270 | h270
                · obtain rfl : M = 269 := by omega
                  exact mok_269 hS hX
                · rcases Nat.lt_or_ge M 271 with h271 | h271
                  · obtain rfl : M = 270 := by omega
                    exact mok_270 hS hX
                  · obtain rfl : M = 271 := by omega
                    exact mok_271 hS hX
              · rcases Nat.lt_or_ge M 274 with h274 | h274
                · rcases Nat.lt_or_ge M 273 with h273 | h273
                  · obtain rfl : M = 272 := by omega
                    exact mok_272 hS hX
                  · obtain rfl : M = 273 := by omega
                    exact mok_273 hS hX
                · rcases Nat.lt_or_ge M 275 with h275 | h275
                  · obtain rfl : M = 274 := by omega
                    exact mok_274 hS hX
                  · obtain rfl : M = 275 := by omega
                    exact mok_275 hS hX
      · rcases Nat.lt_or_ge M 303 with h303 | h303
        · rcases Nat.lt_or_ge M 289 with h289 | h289
          · rcases Nat.lt_or_ge M 282 with h282 | h282
            · rcases Nat.lt_or_ge M 279 with h279 | h279
              · rcases Nat.lt_or_ge M 277 with h277 | h277
                · obtain rfl : M = 276 := by omega
                  exact mok_276 hS hX
                · rcases Nat.lt_or_ge M 278 with h278 | h278
                  · obtain rfl : M = 277 := by omega
                    exact mok_277 hS hX
                  · obtain rfl : M = 278 := by omega
                    exact mok_278 hS hX
              · rcases Nat.lt_or_ge M 280 with h280 | h280
                · obtain rfl : M = 279 := by omega
                  exact mok_279 hS hX
                · rcases Nat.lt_or_ge M 281 with h281 | h281
                  · obtain rfl : M = 280 := by omega
                    exact mok_280 hS hX
                  · obtain rfl : M = 281 := by omega
                    exact mok_281 hS hX
            · rcases Nat.lt_or_ge M 285 with h285 | h285
              · rcases Nat.lt_or_ge M 283 with h283 | h283
                · obtain rfl : M = 282 := by omega
                  exact mok_282 hS hX
                · rcases Nat.lt_or_ge M 284 with h284 | h284
                  · obtain rfl : M = 283 := by omega
                    exact mok_283 hS hX
                  · obtain rfl : M = 284 := by omega
                    exact mok_284 hS hX
              · rcases Nat.lt_or_ge M 287 with h287 | h287
                · rcases Nat.lt_or_ge M 286 with h286 | h286
                  · obtain rfl : M = 285 := by omega
                    exact mok_285 hS hX
                  · obtain rfl : M = 286 := by omega
                    exact mok_286 hS hX
                · rcases Nat.lt_or_ge M 288 with h288 | h288
                  · obtain rfl : M = 287 := by omega
                    exact mok_287 hS hX
                  · obtain rfl : M = 288 := by omega
                    exact mok_288 hS hX
          · rcases Nat.lt_or_ge M 296 with h296 | h296
            · rcases Nat.lt_or_ge M 292 with h292 | h292
              · rcases Nat.lt_or_ge M 290 with h290 | h290
                · obtain rfl : M = 289 := by omega
                  exact mok_289 hS hX
                · rcases Nat.lt_or_ge M 291 with h291 | h291
                  · obtain rfl : M = 290 := by omega
                    exact mok_290 hS hX
                  · obtain rfl : M = 291 := by omega
                    exact mok_291 hS hX
              · rcases Nat.lt_or_ge M 294 with h294 | h294
                · rcases Nat.lt_or_ge M 293 with h293 | h293
                  · obtain rfl : M = 292 := by omega
                    exact mok_292 hS hX
                  · obtain rfl : M = 293 := by omega
                    exact mok_293 hS hX
                · rcases Nat.lt_or_ge M 295 with h295 | h295
                  · obtain rfl : M = 294 := by omega
                    exact mok_294 hS hX
                  · obtain rfl : M = 295 := by omega
                    exact mok_295 hS hX
            · rcases Nat.lt_or_ge M 299 with h299 | h299
              · rcases Nat.lt_or_ge M 297 with h297 | h297
                · obtain rfl : M = 296 := by omega
                  exact mok_296 hS hX
                · rcases Nat.lt_or_ge M 298 with h298 | h298
                  · obtain rfl : M = 297 := by omega
                    exact mok_297 hS hX
                  · obtain rfl : M = 298 := by omega
                    exact mok_298 hS hX
              · rcases Nat.lt_or_ge M 301 with h301 | h301
                · rcases Nat.lt_or_ge M 300 with h300 | h300
                  · obtain rfl : M = 299 := by omega
                    exact mok_299 hS hX
                  · obtain rfl : M = 300 := by omega
                    exact mok_300 hS hX
                · rcases Nat.lt_or_ge M 302 with h302 | h302
                  · obtain rfl : M = 301 := by omega
                    exact mok_301 hS hX
                  · obtain rfl : M = 302 := by omega
                    exact mok_302 hS hX
        · rcases Nat.lt_or_ge M 317 with h317 | h317
          · rcases Nat.lt_or_ge M 310 with h310 | h310
            · rcases Nat.lt_or_ge M 306 with h306 | h306
              · rcases Nat.lt_or_ge M 304 with h304 | h304
                · obtain rfl : M = 303 := by omega
                  exact mok_303 hS hX
                · rcases Nat.lt_or_ge M 305 with h305 | h305
                  · obtain rfl : M = 304 := by omega
                    exact mok_304 hS hX
                  · obtain rfl : M = 305 := by omega
                    exact mok_305 hS hX
              · rcases Nat.lt_or_ge M 308 with h308 | h308
                · rcases Nat.lt_or_ge M 307 with h307 | h307
                  · obtain rfl : M = 306 := by omega
                    exact mok_306 hS hX
                  · obtain rfl : M = 307 := by omega
                    exact mok_307 hS hX
                · rcases Nat.lt_or_ge M 309 with h309 | h309
                  · obtain rfl : M = 308 := by omega
                    exact mok_308 hS hX
                  · obtain rfl : M = 309 := by omega
                    exact mok_309 hS hX
            · rcases Nat.lt_or_ge M 313 with h313 | h313
              · rcases Nat.lt_or_ge M 311 with h311 | h311
                · obtain rfl : M = 310 := by omega
                  exact mok_310 hS hX
                · rcases Nat.lt_or_ge M 312 with h312 | h312
                  · obtain rfl : M = 311 := by omega
                    exact mok_311 hS hX
                  · obtain rfl : M = 312 := by omega
                    exact mok_312 hS hX
              · rcases Nat.lt_or_ge M 315 with h315 | h315
                · rcases Nat.lt_or_ge M 314 with h314 | h314
                  · obtain rfl : M = 313 := by omega
                    exact mok_313 hS hX
                  · obtain rfl : M = 314 := by omega
                    exact mok_314 hS hX
                · rcases Nat.lt_or_ge M 316 with h316 | h316
                  · obtain rfl : M = 315 := by omega
                    exact mok_315 hS hX
                  · obtain rfl : M = 316 := by omega
                    exact mok_316 hS hX
          · rcases Nat.lt_or_ge M 324 with h324 | h324
            · rcases Nat.lt_or_ge M 320 with h320 | h320
              · rcases Nat.lt_or_ge M 318 with h318 | h318
                · obtain rfl : M = 317 := by omega
                  exact mok_317 hS hX
                · rcases Nat.lt_or_ge M 319 with h319 | h319
                  · obtain rfl : M = 318 := by omega
                    exact mok_318 hS hX
                  · obtain rfl : M = 319 := by omega
                    exact mok_319 hS hX
              · rcases Nat.lt_or_ge M 322 with h322 | h322
                · rcases Nat.lt_or_ge M 321 with h321 | h321
                  · obtain rfl : M = 320 := by omega
                    exact mok_320 hS hX
                  · obtain rfl : M = 321 := by omega
                    exact mok_321 hS hX
                · rcases Nat.lt_or_ge M 323 with h323 | h323
                  · obtain rfl : M = 322 := by omega
                    exact mok_322 hS hX
                  · obtain rfl : M = 323 := by omega
                    exact mok_323 hS hX
            · rcases Nat.lt_or_ge M 327 with h327 | h327
              · rcases Nat.lt_or_ge M 325 with h325 | h325
                · obtain rfl : M = 324 := by omega
                  exact mok_324 hS hX
                · rcases Nat.lt_or_ge M 326 with h326 | h326
                  · obtain rfl : M = 325 := by omega
                    exact mok_325 hS hX
                  · obtain rfl : M = 326 := by omega
                    exact mok_326 hS hX
              · rcases Nat.lt_or_ge M 329 with h329 | h329
                · rcases Nat.lt_or_ge M 328 with h328 | h328
                  · obtain rfl : M = 327 := by omega
                    exact mok_327 hS hX
                  · obtain rfl : M = 328 := by omega
                    exact mok_328 hS hX
                · rcases Nat.lt_or_ge M 330 with h330 | h330
                  · obtain rfl : M = 329 := by omega
                    exact mok_329 hS hX
                  · obtain rfl : M = 330 := by omega
                    exact mok_330 hS hX
    · rcases Nat.lt_or_ge M 386 with h386 | h386
      · rcases Nat.lt_or_ge M 358 with h358 | h358
        · rcases Nat.lt_or_ge M 344 with h344 | h344
          · rcases Nat.lt_or_ge M 337 with h337 | h337
            · rcases Nat.lt_or_ge M 334 with h334 | h334
              · rcases Nat.lt_or_ge M 332 with h332 | h332
                · obtain rfl : M = 331 := by omega
                  exact mok_331 hS hX
                · rcases Nat.lt_or_ge M 333 with h333 | h333
                  · obtain rfl : M = 332 := by omega
                    exact mok_332 hS hX
                  · obtain rfl : M = 333 := by omega
                    exact mok_333 hS hX
              · rcases Nat.lt_or_ge M 335 with h335 | h335
                · obtain rfl : M = 334 := by omega
                  exact mok_334 hS hX
                · rcases Nat.lt_or_ge M 336 with h336 | h336
                  · obtain rfl : M = 335 := by omega
                    exact mok_335 hS hX
                  · obtain rfl : M = 336 := by omega
                    exact mok_336 hS hX
            · rcases Nat.lt_or_ge M 340 with h340 | h340
              · rcases Nat.lt_or_ge M 338 with h338 | h338
                · obtain rfl : M = 337 := by omega
                  exact mok_337 hS hX
                · rcases Nat.lt_or_ge M 339 with h339 | h339
                  · obtain rfl : M = 338 := by omega
                    exact mok_338 hS hX
                  · obtain rfl : M = 339 := by omega
                    exact mok_339 hS hX
              · rcases Nat.lt_or_ge M 342 with h342 | h342
                · rcases Nat.lt_or_ge M 341 with h341 | h341
                  · obtain rfl : M = 340 := by omega
                    exact mok_340 hS hX
                  · obtain rfl : M = 341 := by omega
                    exact mok_341 hS hX
                · rcases Nat.lt_or_ge M 343 with h343 | h343
                  · obtain rfl : M = 342 := by omega
                    exact mok_342 hS hX
                  · obtain rfl : M = 343 := by omega
                    exact mok_343 hS hX
          · rcases Nat.lt_or_ge M 351 with h351 | h351
            · rcases Nat.lt_or_ge M 347 with h347 | h347
              · rcases Nat.lt_or_ge M 345 with h345 | h345
                · obtain rfl : M = 344 := by omega
                  exact mok_344 hS hX
                · rcases Nat.lt_or_ge M 346 with h346 | h346
                  · obtain rfl : M = 345 := by omega
                    exact mok_345 hS hX
                  · obtain rfl : M = 346 := by omega
                    exact mok_346 hS hX
              · rcases Nat.lt_or_ge M 349 with h349 | h349
                · rcases Nat.lt_or_ge M 348 with h348 | h348
                  · obtain rfl : M = 347 := by omega
                    exact mok_347 hS hX
                  · obtain rfl : M = 348 := by omega
                    exact mok_348 hS hX
                · rcases Nat.lt_or_ge M 350 with h350 | h350
                  · obtain rfl : M = 349 := by omega
                    exact mok_349 hS hX
                  · obtain rfl : M = 350 := by omega
                    exact mok_350 hS hX
            · rcases Nat.lt_or_ge M 354 with h354 | h354
              · rcases Nat.lt_or_ge M 352 with h352 | h352
                · obtain rfl : M = 351 := by omega
                  exact mok_351 hS hX
                · rcases Nat.lt_or_ge M 353 with h353 | h353
                  · obtain rfl : M = 352 := by omega
                    exact mok_352 hS hX
                  · obtain rfl : M = 353 := by omega
                    exact mok_353 hS hX
              · rcases Nat.lt_or_ge M 356 with h356 | h356
                · rcases Nat.lt_or_ge M 355 with h355 | h355
                  · obtain rfl : M = 354 := by omega
                    exact mok_354 hS hX
                  · obtain rfl : M = 355 := by omega
                    exact mok_355 hS hX
                · rcases Nat.lt_or_ge M 357 with h357 | h357
                  · obtain rfl : M = 356 := by omega
                    exact mok_356 hS hX
                  · obtain rfl : M = 357 := by omega
                    exact mok_357 hS hX
        · rcases Nat.lt_or_ge M 372 with h372 | h372
          · rcases Nat.lt_or_ge M 365 with h365 | h365
            · rcases Nat.lt_or_ge M 361 with h361 | h361
              · rcases Nat.lt_or_ge M 359 with h359 | h359
                · obtain rfl : M = 358 := by omega
                  exact mok_358 hS hX
                · rcases Nat.lt_or_ge M 360 with h360 | h360
                  · obtain rfl : M = 359 := by omega
                    exact mok_359 hS hX
                  · obtain rfl : M = 360 := by omega
                    exact mok_360 hS hX
              · rcases Nat.lt_or_ge M 363 with h363 | h363
                · rcases Nat.lt_or_ge M 362 with h362 | h362
                  · obtain rfl : M = 361 := by omega
                    exact mok_361 hS hX
                  · obtain rfl : M = 362 := by omega
                    exact mok_362 hS hX
                · rcases Nat.lt_or_ge M 364 with h364 | h364
                  · obtain rfl : M = 363 := by omega
                    exact mok_363 hS hX
                  · obtain rfl : M = 364 := by omega
                    exact mok_364 hS hX
            · rcases Nat.lt_or_ge M 368 with h368 | h368
              · rcases Nat.lt_or_ge M 366 with h366 | h366
                · obtain rfl : M = 365 := by omega
                  exact mok_365 hS hX
                · rcases Nat.lt_or_ge M 367 with h367 | h367
                  · obtain rfl : M = 366 := by omega
                    exact mok_366 hS hX
                  · obtain rfl : M = 367 := by omega
                    exact mok_367 hS hX
              · rcases Nat.lt_or_ge M 370 with h370 | h370
                · rcases Nat.lt_or_ge M 369 with h369 | h369
                  · obtain rfl : M = 368 := by omega
                    exact mok_368 hS hX
                  · obtain rfl : M = 369 := by omega
                    exact mok_369 hS hX
                · rcases Nat.lt_or_ge M 371 with h371 | h371
                  · obtain rfl : M = 370 := by omega
                    exact mok_370 hS hX
                  · obtain rfl : M = 371 := by omega
                    exact mok_371 hS hX
          · rcases Nat.lt_or_ge M 379 with h379 | h379
            · rcases Nat.lt_or_ge M 375 with h375 | h375
              · rcases Nat.lt_or_ge M 373 with h373 | h373
                · obtain rfl : M = 372 := by omega
                  exact mok_372 hS hX
                · rcases Nat.lt_or_ge M 374 with h374 | h374
                  · obtain rfl : M = 373 := by omega
                    exact mok_373 hS hX
                  · obtain rfl : M = 374 := by omega
                    exact mok_374 hS hX
              · rcases Nat.lt_or_ge M 377 with h377 | h377
                · rcases Nat.lt_or_ge M 376 with h376 | h376
                  · obtain rfl : M = 375 := by omega
                    exact mok_375 hS hX
                  · obtain rfl : M = 376 := by omega
                    exact mok_376 hS hX
                · rcases Nat.lt_or_ge M 378 with h378 | h378
                  · obtain rfl : M = 377 := by omega
                    exact mok_377 hS hX
                  · obtain rfl : M = 378 := by omega
                    exact mok_378 hS hX
            · rcases Nat.lt_or_ge M 382 with h382 | h382
              · rcases Nat.lt_or_ge M 380 with h380 | h380
                · obtain rfl : M = 379 := by omega
                  exact mok_379 hS hX
                · rcases Nat.lt_or_ge M 381 with h381 | h381
                  · obtain rfl : M = 380 := by omega
                    exact mok_380 hS hX
                  · obtain rfl : M = 381 := by omega
                    exact mok_381 hS hX
              · rcases Nat.lt_or_ge M 384 with h384 | h384
                · rcases Nat.lt_or_ge M 383 with h383 | h383
                  · obtain rfl : M = 382 := by omega
                    exact mok_382 hS hX
                  · obtain rfl : M = 383 := by omega
                    exact mok_383 hS hX
                · rcases Nat.lt_or_ge M 385 with h385 | h385
                  · obtain rfl : M = 384 := by omega
                    exact mok_384 hS hX
                  · obtain rfl : M = 385 := by omega
                    exact mok_385 hS hX
      · rcases Nat.lt_or_ge M 414 with h414 | h414
        · rcases Nat.lt_or_ge M 400 with h400 | h400
          · rcases Nat.lt_or_ge M 393 with h393 | h393
            · rcases Nat.lt_or_ge M 389 with h389 | h389
              · rcases Nat.lt_or_ge M 387 with h387 | h387
                · obtain rfl : M = 386 := by omega
                  exact mok_386 hS hX
                · rcases Nat.lt_or_ge M 388 with h388 | h388
                  · obtain rfl : M = 387 := by omega
                    exact mok_387 hS hX
                  · obtain rfl : M = 388 := by omega
                    exact mok_388 hS hX
              · rcases Nat.lt_or_ge M 391 with h391 | h391
                · rcases Nat.lt_or_ge M 390 with h390 | h390
                  · obtain rfl : M = 389 := by omega
                    exact mok_389 hS hX
                  · obtain rfl : M = 390 := by omega
                    exact mok_390 hS hX
                · rcases Nat.lt_or_ge M 392 with h392 | h392
                  · obtain rfl : M = 391 := by omega
                    exact mok_391 hS hX
                  · obtain rfl : M = 392 := by omega
                    exact mok_392 hS hX
            · rcases Nat.lt_or_ge M 396 with h396 | h396
              · rcases Nat.lt_or_ge M 394 with h394 | h394
                · obtain rfl : M = 393 := by omega
                  exact mok_393 hS hX
                · rcases Nat.lt_or_ge M 395 with h395 | h395
                  · obtain rfl : M = 394 := by omega
                    exact mok_394 hS hX
                  · obtain rfl : M = 395 := by omega
                    exact mok_395 hS hX
              · rcases Nat.lt_or_ge M 398 with h398 | h398
                · rcases Nat.lt_or_ge M 397 with h397 | h397
                  · obtain rfl : M = 396 := by omega
                    exact mok_396 hS hX
                  · obtain rfl : M = 397 := by omega
                    exact mok_397 hS hX
                · rcases Nat.lt_or_ge M 399 with h399 | h399
                  · obtain rfl : M = 398 := by omega
                    exact mok_398 hS hX
                  · obtain rfl : M = 399 := by omega
                    exact mok_399 hS hX
          · rcases Nat.lt_or_ge M 407 with h407 | h407
            · rcases Nat.lt_or_ge M 403 with h403 | h403
              · rcases Nat.lt_or_ge M 401 with h401 | h401
                · obtain rfl : M = 400 := by omega
                  exact mok_400 hS hX
                · rcases Nat.lt_or_ge M 402 with h402 | h402
                  · obtain rfl : M = 401 := by omega
                    exact mok_401 hS hX
                  · obtain rfl : M = 402 := by omega
                    exact mok_402 hS hX
              · rcases Nat.lt_or_ge M 405 with h405 | h405
                · rcases Nat.lt_or_ge M 404 with h404 | h404
                  · obtain rfl : M = 403 := by omega
                    exact mok_403 hS hX
                  · obtain rfl : M = 404 := by omega
                    exact mok_404 hS hX
                · rcases Nat.lt_or_ge M 406 with h406 | h406
                  · obtain rfl : M = 405 := by omega
                    exact mok_405 hS hX
                  · obtain rfl : M = 406 := by omega
                    exact mok_406 hS hX
            · rcases Nat.lt_or_ge M 410 with h410 | h410
              · rcases Nat.lt_or_ge M 408 with h408 | h408
                · obtain rfl : M = 407 := by omega
                  exact mok_407 hS hX
                · rcases Nat.lt_or_ge M 409 with h409 | h409
                  · obtain rfl : M = 408 := by omega
                    exact mok_408 hS hX
                  · obtain rfl : M = 409 := by omega
                    exact mok_409 hS hX
              · rcases Nat.lt_or_ge M 412 with h412 | h412
                · rcases Nat.lt_or_ge M 411 with h411 | h411
                  · obtain rfl : M = 410 := by omega
                    exact mok_410 hS hX
                  · obtain rfl : M = 411 := by omega
                    exact mok_411 hS hX
                · rcases Nat.lt_or_ge M 413 with h413 | h413
                  · obtain rfl : M = 412 := by omega
                    exact mok_412 hS hX
                  · obtain rfl : M = 413 := by omega
                    exact mok_413 hS hX
        · rcases Nat.lt_or_ge M 428 with h428 | h428
          · rcases Nat.lt_or_ge M 421 with h421 | h421
            · rcases Nat.lt_or_ge M 417 with h417 | h417
              · rcases Nat.lt_or_ge M 415 with h415 | h415
                · obtain rfl : M = 414 := by omega
                  exact mok_414 hS hX
                · rcases Nat.lt_or_ge M 416 with h416 | h416
                  · obtain rfl : M = 415 := by omega
                    exact mok_415 hS hX
                  · obtain rfl : M = 416 := by omega
                    exact mok_416 hS hX
              · rcases Nat.lt_or_ge M 419 with h419 | h419
                · rcases Nat.lt_or_ge M 418 with h418 | h418
                  · obtain rfl : M = 417 := by omega
                    exact mok_417 hS hX
                  · obtain rfl : M = 418 := by omega
                    exact mok_418 hS hX
                · rcases Nat.lt_or_ge M 420 with h420 | h420
                  · obtain rfl : M = 419 := by omega
                    exact mok_419 hS hX
                  · obtain rfl : M = 420 := by omega
                    exact mok_420 hS hX
            · rcases Nat.lt_or_ge M 424 with h424 | h424
              · rcases Nat.lt_or_ge M 422 with h422 | h422
                · obtain rfl : M = 421 := by omega
                  exact mok_421 hS hX
                · rcases Nat.lt_or_ge M 423 with h423 | h423
                  · obtain rfl : M = 422 := by omega
                    exact mok_422 hS hX
                  · obtain rfl : M = 423 := by omega
                    exact mok_423 hS hX
              · rcases Nat.lt_or_ge M 426 with h426 | h426
                · rcases Nat.lt_or_ge M 425 with h425 | h425
                  · obtain rfl : M = 424 := by omega
                    exact mok_424 hS hX
                  · obtain rfl : M = 425 := by omega
                    exact mok_425 hS hX
                · rcases Nat.lt_or_ge M 427 with h427 | h427
                  · obtain rfl : M = 426 := by omega
                    exact mok_426 hS hX
                  · obtain rfl : M = 427 := by omega
                    exact mok_427 hS hX
          · rcases Nat.lt_or_ge M 435 with h435 | h435
            · rcases Nat.lt_or_ge M 431 with h431 | h431
              · rcases Nat.lt_or_ge M 429 with h429 | h429
                · obtain rfl : M = 428 := by omega
                  exact mok_428 hS hX
                · rcases Nat.lt_or_ge M 430 with h430 | h430
                  · obtain rfl : M = 429 := by omega
                    exact mok_429 hS hX
                  · obtain rfl : M = 430 := by omega
                    exact mok_430 hS hX
              · rcases Nat.lt_or_ge M 433 with h433 | h433
                · rcases Nat.lt_or_ge M 432 with h432 | h432
                  · obtain rfl : M = 431 := by omega
                    exact mok_431 hS hX
                  · obtain rfl : M = 432 := by omega
                    exact mok_432 hS hX
                · rcases Nat.lt_or_ge M 434 with h434 | h434
                  · obtain rfl : M = 433 := by omega
                    exact mok_433 hS hX
                  · obtain rfl : M = 434 := by omega
                    exact mok_434 hS hX
            · rcases Nat.lt_or_ge M 438 with h438 | h438
              · rcases Nat.lt_or_ge M 436 with h436 | h436
                · obtain rfl : M = 435 := by omega
                  exact mok_435 hS hX
                · rcases Nat.lt_or_ge M 437 with h437 | h437
                  · obtain rfl : M = 436 := by omega
                    exact mok_436 hS hX
                  · obtain rfl : M = 437 := by omega
                    exact mok_437 hS hX
              · rcases Nat.lt_or_ge M 440 with h440 | h440
                · rcases Nat.lt_or_ge M 439 with h439 | h439
                  · obtain rfl : M = 438 := by omega
                    exact mok_438 hS hX
                  · obtain rfl : M = 439 := by omega
                    exact mok_439 hS hX
                · rcases Nat.lt_or_ge M 441 with h441 | h441
                  · obtain rfl : M = 440 := by omega
                    exact mok_440 hS hX
                  · obtain rfl : M = 441 := by omega
                    exact mok_441 hS hX hlaw
theorem mok_any (hS : pv_ST B sa xv H0 args s) (hX : pv_XC D s) (hlaw : (Jvm.Cond.codeWith ⟨"RegionHouseLaw", "law", "([I)Z"⟩ code 7 (some .boolean) []).before args s = true) (M : Nat) (hM : ∃ pc, (pv_ins (PP L xs) M pc).isSome = true) : pv_MOK (mkE B sa xv D cA H0) (PP L xs) GG M args s := by
  rcases Nat.lt_or_ge M 442 with h | h
  · exact mok_all hS hX hlaw M h
  · exfalso
    obtain ⟨pc, hpc⟩ := hM
    have e1 : insOf M = [] := by
      unfold insOf
      rw [if_neg (by omega : ¬ M < 221), if_neg (by omega : ¬ M < 332), if_neg (by omega : ¬ M < 387), if_neg (by omega : ¬ M < 415), if_neg (by omega : ¬ M < 429), if_neg (by omega : ¬ M < 436), if_neg (by omega : ¬ M < 439), if_neg (by omega : ¬ M < 441), if_neg (by omega : ¬ M < 442)]
    have e2 : pv_ins (PP L xs) M pc = ((insOf M).find? (fun q => q.1 == pc)).map (fun q => q.2) := rfl
    rw [e2, e1] at hpc
    cases hpc
end RTT
