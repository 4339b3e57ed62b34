/-! THE NAMED MACHINE: every cell of the two systems has a name (its number at the start); arrays that grow keep their names -/
def tagN (k : Nat) : Nat := (cond (Nat.blt k 120) (cond (Nat.blt k 60) (cond (Nat.blt k 30) (cond (Nat.blt k 15) (cond (Nat.blt k 7) (cond (Nat.blt k 3) (cond (Nat.blt k 1) 11 (cond (Nat.blt k 2) 12 1)) (cond (Nat.blt k 5) (cond (Nat.blt k 4) 12 1) (cond (Nat.blt k 6) 13 14))) (cond (Nat.blt k 11) (cond (Nat.blt k 9) (cond (Nat.blt k 8) 4 2) (cond (Nat.blt k 10) 1 0)) (cond (Nat.blt k 13) (cond (Nat.blt k 12) 0 2) 0))) (cond (Nat.blt k 22) (cond (Nat.blt k 18) (cond (Nat.blt k 16) 15 0) 0) (cond (Nat.blt k 26) 0 (cond (Nat.blt k 28) 0 (cond (Nat.blt k 29) 0 2))))) (cond (Nat.blt k 45) (cond (Nat.blt k 37) 0 (cond (Nat.blt k 41) 0 (cond (Nat.blt k 43) (cond (Nat.blt k 42) 0 2) 0))) (cond (Nat.blt k 52) (cond (Nat.blt k 48) 0 (cond (Nat.blt k 50) 0 (cond (Nat.blt k 51) 16 0))) 0))) (cond (Nat.blt k 90) (cond (Nat.blt k 75) (cond (Nat.blt k 67) (cond (Nat.blt k 63) (cond (Nat.blt k 61) 0 (cond (Nat.blt k 62) 0 17)) (cond (Nat.blt k 65) 0 (cond (Nat.blt k 66) 18 0))) (cond (Nat.blt k 71) 0 (cond (Nat.blt k 73) 0 (cond (Nat.blt k 74) 0 19)))) (cond (Nat.blt k 82) 0 (cond (Nat.blt k 86) 0 (cond (Nat.blt k 88) (cond (Nat.blt k 87) 3 20) 0)))) (cond (Nat.blt k 105) (cond (Nat.blt k 97) (cond (Nat.blt k 93) 0 (cond (Nat.blt k 95) (cond (Nat.blt k 94) 0 21) 0)) (cond (Nat.blt k 101) (cond (Nat.blt k 99) 0 (cond (Nat.blt k 100) 0 22)) (cond (Nat.blt k 103) (cond (Nat.blt k 102) 0 1) (cond (Nat.blt k 104) 23 0)))) (cond (Nat.blt k 112) (cond (Nat.blt k 108) (cond (Nat.blt k 106) 1 0) 0) (cond (Nat.blt k 116) 0 (cond (Nat.blt k 118) (cond (Nat.blt k 117) 0 24) 0)))))) (cond (Nat.blt k 180) (cond (Nat.blt k 150) (cond (Nat.blt k 135) (cond (Nat.blt k 127) (cond (Nat.blt k 123) 0 (cond (Nat.blt k 125) (cond (Nat.blt k 124) 25 0) 0)) 0) 0) 0) (cond (Nat.blt k 210) (cond (Nat.blt k 195) (cond (Nat.blt k 187) 0 (cond (Nat.blt k 191) (cond (Nat.blt k 189) 2 (cond (Nat.blt k 190) 2 0)) 0)) 0) (cond (Nat.blt k 225) 0 (cond (Nat.blt k 232) 0 (cond (Nat.blt k 236) 0 (cond (Nat.blt k 238) 0 (cond (Nat.blt k 239) 2 9999))))))))
def lenN (k : Nat) : Nat := (cond (Nat.blt k 120) (cond (Nat.blt k 60) (cond (Nat.blt k 30) (cond (Nat.blt k 15) (cond (Nat.blt k 7) (cond (Nat.blt k 3) (cond (Nat.blt k 1) 15 (cond (Nat.blt k 2) 2 3000)) (cond (Nat.blt k 5) (cond (Nat.blt k 4) 2 20000) (cond (Nat.blt k 6) 2 10))) (cond (Nat.blt k 11) (cond (Nat.blt k 9) 13 (cond (Nat.blt k 10) 3000 3001)) 3001)) (cond (Nat.blt k 22) (cond (Nat.blt k 18) (cond (Nat.blt k 16) 39 4101) 4101) 4101)) (cond (Nat.blt k 45) (cond (Nat.blt k 37) 4101 (cond (Nat.blt k 41) (cond (Nat.blt k 39) 4101 (cond (Nat.blt k 40) 4101 1024)) (cond (Nat.blt k 43) (cond (Nat.blt k 42) 1024 21) 21))) (cond (Nat.blt k 52) (cond (Nat.blt k 48) 21 (cond (Nat.blt k 50) 21 (cond (Nat.blt k 51) 18 61440))) (cond (Nat.blt k 56) 61440 (cond (Nat.blt k 58) 61440 (cond (Nat.blt k 59) 61440 106496)))))) (cond (Nat.blt k 90) (cond (Nat.blt k 75) (cond (Nat.blt k 67) (cond (Nat.blt k 63) (cond (Nat.blt k 61) 106496 (cond (Nat.blt k 62) 1024 13)) (cond (Nat.blt k 65) (cond (Nat.blt k 64) 16404 4101) (cond (Nat.blt k 66) 14 4101))) (cond (Nat.blt k 71) (cond (Nat.blt k 69) (cond (Nat.blt k 68) 4101 21) (cond (Nat.blt k 70) 4101 1024)) (cond (Nat.blt k 73) 21 (cond (Nat.blt k 74) 256 20)))) (cond (Nat.blt k 82) (cond (Nat.blt k 78) (cond (Nat.blt k 76) 1024 (cond (Nat.blt k 77) 1024 4102)) (cond (Nat.blt k 80) (cond (Nat.blt k 79) 4102 21) (cond (Nat.blt k 81) 21 256))) (cond (Nat.blt k 86) (cond (Nat.blt k 84) (cond (Nat.blt k 83) 256 4101) (cond (Nat.blt k 85) 4101 256)) (cond (Nat.blt k 88) (cond (Nat.blt k 87) 61 15) 4101)))) (cond (Nat.blt k 105) (cond (Nat.blt k 97) (cond (Nat.blt k 93) 4101 (cond (Nat.blt k 95) (cond (Nat.blt k 94) 64 11) (cond (Nat.blt k 96) 1024 21))) (cond (Nat.blt k 101) (cond (Nat.blt k 99) 4101 (cond (Nat.blt k 100) 4101 3)) (cond (Nat.blt k 103) 4000 (cond (Nat.blt k 104) 27 51200)))) (cond (Nat.blt k 112) (cond (Nat.blt k 108) (cond (Nat.blt k 106) 51200 400) 2000) (cond (Nat.blt k 116) 2000 (cond (Nat.blt k 118) (cond (Nat.blt k 117) 17067 18) (cond (Nat.blt k 119) 18060 300))))))) (cond (Nat.blt k 180) (cond (Nat.blt k 150) (cond (Nat.blt k 135) (cond (Nat.blt k 127) (cond (Nat.blt k 123) 300 (cond (Nat.blt k 125) (cond (Nat.blt k 124) 171 3000) (cond (Nat.blt k 126) 20000 3002))) (cond (Nat.blt k 131) (cond (Nat.blt k 129) 3002 (cond (Nat.blt k 130) 3002 3000)) (cond (Nat.blt k 133) (cond (Nat.blt k 132) 3002 40000) 40000))) (cond (Nat.blt k 142) (cond (Nat.blt k 138) 6000 22) (cond (Nat.blt k 146) (cond (Nat.blt k 144) (cond (Nat.blt k 143) 22 23) (cond (Nat.blt k 145) 23 3002)) (cond (Nat.blt k 148) 3002 (cond (Nat.blt k 149) 80 3003))))) (cond (Nat.blt k 165) (cond (Nat.blt k 157) (cond (Nat.blt k 153) (cond (Nat.blt k 151) 3003 6000) 6000) 6000) (cond (Nat.blt k 172) (cond (Nat.blt k 168) (cond (Nat.blt k 166) 6000 100000) 100000) (cond (Nat.blt k 176) (cond (Nat.blt k 174) 100000 250000) (cond (Nat.blt k 178) (cond (Nat.blt k 177) 100000 200000) (cond (Nat.blt k 179) 6000 3002)))))) (cond (Nat.blt k 210) (cond (Nat.blt k 195) (cond (Nat.blt k 187) (cond (Nat.blt k 183) (cond (Nat.blt k 181) 22 (cond (Nat.blt k 182) 6000 60000)) (cond (Nat.blt k 185) 100000 20000)) (cond (Nat.blt k 191) (cond (Nat.blt k 189) (cond (Nat.blt k 188) 6000 3003) (cond (Nat.blt k 190) 2 22)) (cond (Nat.blt k 193) (cond (Nat.blt k 192) 22 1408) 1408))) (cond (Nat.blt k 202) (cond (Nat.blt k 198) (cond (Nat.blt k 196) 22 6000) (cond (Nat.blt k 200) (cond (Nat.blt k 199) 30000 6000) (cond (Nat.blt k 201) 6000 40000))) (cond (Nat.blt k 206) (cond (Nat.blt k 204) (cond (Nat.blt k 203) 23 12) 3002) (cond (Nat.blt k 208) (cond (Nat.blt k 207) 8000 4001) (cond (Nat.blt k 209) 4001 130000))))) (cond (Nat.blt k 225) (cond (Nat.blt k 217) (cond (Nat.blt k 213) (cond (Nat.blt k 211) 130000 (cond (Nat.blt k 212) 130000 19520)) (cond (Nat.blt k 215) (cond (Nat.blt k 214) 19520 305) (cond (Nat.blt k 216) 305 2001))) 2001) (cond (Nat.blt k 232) 30002 (cond (Nat.blt k 236) (cond (Nat.blt k 234) 30002 201000) (cond (Nat.blt k 238) 100000 (cond (Nat.blt k 239) 1 0))))))))
def grw (k : Nat) : Bool := (cond (Nat.blt k 120) (cond (Nat.blt k 60) (cond (Nat.blt k 30) false (cond (Nat.blt k 45) (cond (Nat.blt k 37) false (cond (Nat.blt k 41) (cond (Nat.blt k 39) false (cond (Nat.blt k 40) false true)) (cond (Nat.blt k 43) (cond (Nat.blt k 42) true false) false))) (cond (Nat.blt k 52) (cond (Nat.blt k 48) false (cond (Nat.blt k 50) false (cond (Nat.blt k 51) false true))) true))) (cond (Nat.blt k 90) (cond (Nat.blt k 75) (cond (Nat.blt k 67) (cond (Nat.blt k 63) (cond (Nat.blt k 61) true (cond (Nat.blt k 62) true false)) false) (cond (Nat.blt k 71) (cond (Nat.blt k 69) false (cond (Nat.blt k 70) false true)) (cond (Nat.blt k 73) false (cond (Nat.blt k 74) true false)))) (cond (Nat.blt k 82) (cond (Nat.blt k 78) (cond (Nat.blt k 76) true (cond (Nat.blt k 77) true false)) (cond (Nat.blt k 80) false (cond (Nat.blt k 81) false true))) (cond (Nat.blt k 86) (cond (Nat.blt k 84) (cond (Nat.blt k 83) true false) (cond (Nat.blt k 85) false true)) false))) (cond (Nat.blt k 105) (cond (Nat.blt k 97) (cond (Nat.blt k 93) false (cond (Nat.blt k 95) (cond (Nat.blt k 94) true false) (cond (Nat.blt k 96) true false))) false) false))) false)
def refN (k f : Nat) : Nat := (cond (Nat.blt k 120) (cond (Nat.blt k 60) (cond (Nat.blt k 30) (cond (Nat.blt k 15) (cond (Nat.blt k 7) (cond (Nat.blt k 3) (cond (Nat.blt k 1) (cond (Nat.blt f 7) (cond (Nat.blt f 3) (cond (Nat.blt f 1) 1 (cond (Nat.blt f 2) 3 5)) (cond (Nat.blt f 5) (cond (Nat.blt f 4) 6 15) (cond (Nat.blt f 6) 50 62))) (cond (Nat.blt f 11) (cond (Nat.blt f 9) (cond (Nat.blt f 8) 65 74) (cond (Nat.blt f 10) 87 94)) (cond (Nat.blt f 13) (cond (Nat.blt f 12) 100 103) (cond (Nat.blt f 14) 117 999)))) (cond (Nat.blt k 2) (cond (Nat.blt f 1) 2 999) 999)) (cond (Nat.blt k 5) (cond (Nat.blt k 4) (cond (Nat.blt f 1) 4 999) 999) (cond (Nat.blt k 6) 999 (cond (Nat.blt f 5) (cond (Nat.blt f 2) (cond (Nat.blt f 1) 7 8) (cond (Nat.blt f 3) 9 (cond (Nat.blt f 4) 999 10))) (cond (Nat.blt f 7) (cond (Nat.blt f 6) 11 12) (cond (Nat.blt f 8) 13 (cond (Nat.blt f 9) 14 999))))))) 999) (cond (Nat.blt k 22) (cond (Nat.blt k 18) (cond (Nat.blt k 16) (cond (Nat.blt f 19) (cond (Nat.blt f 9) (cond (Nat.blt f 4) (cond (Nat.blt f 2) (cond (Nat.blt f 1) 16 17) (cond (Nat.blt f 3) 18 19)) (cond (Nat.blt f 6) (cond (Nat.blt f 5) 20 21) (cond (Nat.blt f 7) 22 (cond (Nat.blt f 8) 23 24)))) (cond (Nat.blt f 14) (cond (Nat.blt f 11) (cond (Nat.blt f 10) 25 26) (cond (Nat.blt f 12) 27 (cond (Nat.blt f 13) 28 999))) (cond (Nat.blt f 16) (cond (Nat.blt f 15) 29 30) (cond (Nat.blt f 17) 31 (cond (Nat.blt f 18) 32 33))))) (cond (Nat.blt f 29) (cond (Nat.blt f 24) (cond (Nat.blt f 21) (cond (Nat.blt f 20) 999 34) (cond (Nat.blt f 22) 35 (cond (Nat.blt f 23) 36 37))) (cond (Nat.blt f 26) (cond (Nat.blt f 25) 38 39) (cond (Nat.blt f 27) 999 (cond (Nat.blt f 28) 40 41)))) (cond (Nat.blt f 34) (cond (Nat.blt f 31) (cond (Nat.blt f 30) 999 42) (cond (Nat.blt f 32) 43 (cond (Nat.blt f 33) 44 45))) (cond (Nat.blt f 36) (cond (Nat.blt f 35) 46 47) (cond (Nat.blt f 37) 48 (cond (Nat.blt f 38) 49 999)))))) 999) 999) 999)) (cond (Nat.blt k 45) 999 (cond (Nat.blt k 52) (cond (Nat.blt k 48) 999 (cond (Nat.blt k 50) 999 (cond (Nat.blt k 51) (cond (Nat.blt f 7) (cond (Nat.blt f 3) (cond (Nat.blt f 1) 51 (cond (Nat.blt f 2) 52 53)) (cond (Nat.blt f 5) (cond (Nat.blt f 4) 54 55) (cond (Nat.blt f 6) 56 57))) (cond (Nat.blt f 11) (cond (Nat.blt f 9) (cond (Nat.blt f 8) 58 999) (cond (Nat.blt f 10) 59 60)) (cond (Nat.blt f 13) 999 (cond (Nat.blt f 14) 61 999)))) 999))) 999))) (cond (Nat.blt k 90) (cond (Nat.blt k 75) (cond (Nat.blt k 67) (cond (Nat.blt k 63) (cond (Nat.blt k 61) 999 (cond (Nat.blt k 62) 999 (cond (Nat.blt f 7) (cond (Nat.blt f 3) (cond (Nat.blt f 1) 6 (cond (Nat.blt f 2) 15 5)) 999) (cond (Nat.blt f 10) 999 (cond (Nat.blt f 12) (cond (Nat.blt f 11) 63 999) (cond (Nat.blt f 13) 64 999)))))) (cond (Nat.blt k 65) 999 (cond (Nat.blt k 66) (cond (Nat.blt f 7) (cond (Nat.blt f 3) (cond (Nat.blt f 1) 6 (cond (Nat.blt f 2) 15 50)) (cond (Nat.blt f 5) (cond (Nat.blt f 4) 5 66) (cond (Nat.blt f 6) 67 68))) (cond (Nat.blt f 10) (cond (Nat.blt f 8) 69 (cond (Nat.blt f 9) 70 999)) (cond (Nat.blt f 12) (cond (Nat.blt f 11) 71 72) (cond (Nat.blt f 13) 73 999)))) 999))) (cond (Nat.blt k 71) 999 (cond (Nat.blt k 73) 999 (cond (Nat.blt k 74) 999 (cond (Nat.blt f 10) (cond (Nat.blt f 5) (cond (Nat.blt f 2) (cond (Nat.blt f 1) 6 15) (cond (Nat.blt f 3) 50 (cond (Nat.blt f 4) 65 5))) (cond (Nat.blt f 7) (cond (Nat.blt f 6) 75 76) (cond (Nat.blt f 8) 999 (cond (Nat.blt f 9) 77 78)))) (cond (Nat.blt f 15) (cond (Nat.blt f 12) (cond (Nat.blt f 11) 79 80) (cond (Nat.blt f 13) 81 (cond (Nat.blt f 14) 82 999))) (cond (Nat.blt f 18) (cond (Nat.blt f 16) 83 (cond (Nat.blt f 17) 84 85)) (cond (Nat.blt f 19) 999 (cond (Nat.blt f 20) 86 999))))))))) (cond (Nat.blt k 82) 999 (cond (Nat.blt k 86) 999 (cond (Nat.blt k 88) (cond (Nat.blt k 87) 999 (cond (Nat.blt f 7) (cond (Nat.blt f 3) (cond (Nat.blt f 1) 6 (cond (Nat.blt f 2) 15 50)) (cond (Nat.blt f 5) (cond (Nat.blt f 4) 65 74) (cond (Nat.blt f 6) 3 88))) (cond (Nat.blt f 10) (cond (Nat.blt f 8) 89 (cond (Nat.blt f 9) 90 91)) (cond (Nat.blt f 12) (cond (Nat.blt f 11) 92 999) (cond (Nat.blt f 13) 93 999))))) 999)))) (cond (Nat.blt k 105) (cond (Nat.blt k 97) (cond (Nat.blt k 93) 999 (cond (Nat.blt k 95) (cond (Nat.blt k 94) 999 (cond (Nat.blt f 5) (cond (Nat.blt f 2) (cond (Nat.blt f 1) 15 65) (cond (Nat.blt f 3) 74 (cond (Nat.blt f 4) 95 999))) (cond (Nat.blt f 7) (cond (Nat.blt f 6) 96 97) (cond (Nat.blt f 8) 98 (cond (Nat.blt f 9) 99 999))))) 999)) (cond (Nat.blt k 101) (cond (Nat.blt k 99) 999 (cond (Nat.blt k 100) 999 (cond (Nat.blt f 1) 101 (cond (Nat.blt f 2) 102 999)))) (cond (Nat.blt k 103) 999 (cond (Nat.blt k 104) (cond (Nat.blt f 13) (cond (Nat.blt f 6) (cond (Nat.blt f 3) (cond (Nat.blt f 1) 100 (cond (Nat.blt f 2) 94 104)) (cond (Nat.blt f 4) 105 999)) (cond (Nat.blt f 9) (cond (Nat.blt f 7) 106 (cond (Nat.blt f 8) 107 999)) (cond (Nat.blt f 11) 999 (cond (Nat.blt f 12) 108 109)))) (cond (Nat.blt f 20) (cond (Nat.blt f 16) (cond (Nat.blt f 14) 110 (cond (Nat.blt f 15) 111 112)) (cond (Nat.blt f 18) (cond (Nat.blt f 17) 113 114) (cond (Nat.blt f 19) 115 999))) (cond (Nat.blt f 23) 999 (cond (Nat.blt f 25) 999 (cond (Nat.blt f 26) 116 999))))) 999)))) (cond (Nat.blt k 112) 999 (cond (Nat.blt k 116) 999 (cond (Nat.blt k 118) (cond (Nat.blt k 117) 999 (cond (Nat.blt f 9) (cond (Nat.blt f 4) (cond (Nat.blt f 2) (cond (Nat.blt f 1) 15 74) (cond (Nat.blt f 3) 94 100)) (cond (Nat.blt f 6) (cond (Nat.blt f 5) 103 999) 999)) (cond (Nat.blt f 13) (cond (Nat.blt f 11) 999 (cond (Nat.blt f 12) 999 118)) (cond (Nat.blt f 15) (cond (Nat.blt f 14) 119 120) (cond (Nat.blt f 16) 121 (cond (Nat.blt f 17) 122 999)))))) 999)))))) (cond (Nat.blt k 180) (cond (Nat.blt k 150) (cond (Nat.blt k 135) (cond (Nat.blt k 127) (cond (Nat.blt k 123) 999 (cond (Nat.blt k 125) (cond (Nat.blt k 124) (cond (Nat.blt f 86) (cond (Nat.blt f 43) (cond (Nat.blt f 21) (cond (Nat.blt f 10) (cond (Nat.blt f 5) (cond (Nat.blt f 2) 999 (cond (Nat.blt f 3) 124 (cond (Nat.blt f 4) 999 125))) (cond (Nat.blt f 7) 999 (cond (Nat.blt f 8) 999 (cond (Nat.blt f 9) 999 126)))) (cond (Nat.blt f 15) (cond (Nat.blt f 12) (cond (Nat.blt f 11) 127 128) (cond (Nat.blt f 13) 129 (cond (Nat.blt f 14) 999 130))) (cond (Nat.blt f 18) (cond (Nat.blt f 16) 999 (cond (Nat.blt f 17) 131 999)) (cond (Nat.blt f 19) 999 (cond (Nat.blt f 20) 132 133))))) (cond (Nat.blt f 32) (cond (Nat.blt f 26) (cond (Nat.blt f 23) (cond (Nat.blt f 22) 134 999) (cond (Nat.blt f 24) 135 (cond (Nat.blt f 25) 136 137))) (cond (Nat.blt f 29) 999 (cond (Nat.blt f 30) 138 (cond (Nat.blt f 31) 139 140)))) (cond (Nat.blt f 37) (cond (Nat.blt f 34) (cond (Nat.blt f 33) 141 142) (cond (Nat.blt f 35) 143 (cond (Nat.blt f 36) 144 999))) (cond (Nat.blt f 40) (cond (Nat.blt f 38) 145 (cond (Nat.blt f 39) 146 147)) (cond (Nat.blt f 41) 999 (cond (Nat.blt f 42) 148 999)))))) (cond (Nat.blt f 64) (cond (Nat.blt f 53) (cond (Nat.blt f 48) (cond (Nat.blt f 45) (cond (Nat.blt f 44) 999 149) (cond (Nat.blt f 46) 150 (cond (Nat.blt f 47) 999 151))) (cond (Nat.blt f 50) (cond (Nat.blt f 49) 152 153) (cond (Nat.blt f 51) 154 (cond (Nat.blt f 52) 155 156)))) (cond (Nat.blt f 58) (cond (Nat.blt f 55) (cond (Nat.blt f 54) 157 158) (cond (Nat.blt f 56) 159 (cond (Nat.blt f 57) 160 161))) (cond (Nat.blt f 61) (cond (Nat.blt f 59) 162 (cond (Nat.blt f 60) 163 999)) (cond (Nat.blt f 62) 164 (cond (Nat.blt f 63) 165 999))))) (cond (Nat.blt f 75) (cond (Nat.blt f 69) (cond (Nat.blt f 66) (cond (Nat.blt f 65) 166 167) (cond (Nat.blt f 67) 168 (cond (Nat.blt f 68) 169 170))) (cond (Nat.blt f 72) (cond (Nat.blt f 70) 171 (cond (Nat.blt f 71) 172 173)) (cond (Nat.blt f 73) 999 (cond (Nat.blt f 74) 999 174)))) (cond (Nat.blt f 80) (cond (Nat.blt f 77) (cond (Nat.blt f 76) 175 176) (cond (Nat.blt f 78) 177 (cond (Nat.blt f 79) 178 179))) (cond (Nat.blt f 83) (cond (Nat.blt f 81) 180 (cond (Nat.blt f 82) 181 999)) (cond (Nat.blt f 84) 182 (cond (Nat.blt f 85) 999 183))))))) (cond (Nat.blt f 129) (cond (Nat.blt f 107) (cond (Nat.blt f 96) (cond (Nat.blt f 91) (cond (Nat.blt f 88) (cond (Nat.blt f 87) 184 999) (cond (Nat.blt f 89) 185 (cond (Nat.blt f 90) 186 999))) (cond (Nat.blt f 93) (cond (Nat.blt f 92) 187 188) (cond (Nat.blt f 94) 189 (cond (Nat.blt f 95) 999 190)))) (cond (Nat.blt f 101) (cond (Nat.blt f 98) (cond (Nat.blt f 97) 191 192) (cond (Nat.blt f 99) 193 (cond (Nat.blt f 100) 194 195))) (cond (Nat.blt f 104) (cond (Nat.blt f 102) 196 (cond (Nat.blt f 103) 197 999)) (cond (Nat.blt f 105) 198 (cond (Nat.blt f 106) 199 200))))) (cond (Nat.blt f 118) (cond (Nat.blt f 112) (cond (Nat.blt f 109) (cond (Nat.blt f 108) 999 201) (cond (Nat.blt f 110) 202 999)) (cond (Nat.blt f 115) (cond (Nat.blt f 113) 203 (cond (Nat.blt f 114) 999 204)) (cond (Nat.blt f 116) 205 999))) (cond (Nat.blt f 123) (cond (Nat.blt f 120) (cond (Nat.blt f 119) 206 999) 999) 999))) (cond (Nat.blt f 150) (cond (Nat.blt f 139) (cond (Nat.blt f 134) (cond (Nat.blt f 131) 999 (cond (Nat.blt f 132) 999 (cond (Nat.blt f 133) 999 207))) (cond (Nat.blt f 136) (cond (Nat.blt f 135) 208 999) (cond (Nat.blt f 137) 209 (cond (Nat.blt f 138) 210 211)))) (cond (Nat.blt f 144) (cond (Nat.blt f 141) (cond (Nat.blt f 140) 999 212) (cond (Nat.blt f 142) 213 (cond (Nat.blt f 143) 214 215))) (cond (Nat.blt f 147) (cond (Nat.blt f 145) 999 (cond (Nat.blt f 146) 216 217)) (cond (Nat.blt f 148) 218 (cond (Nat.blt f 149) 219 220))))) (cond (Nat.blt f 161) (cond (Nat.blt f 155) (cond (Nat.blt f 152) (cond (Nat.blt f 151) 221 222) (cond (Nat.blt f 153) 223 (cond (Nat.blt f 154) 224 225))) (cond (Nat.blt f 158) (cond (Nat.blt f 156) 226 (cond (Nat.blt f 157) 227 228)) (cond (Nat.blt f 159) 229 (cond (Nat.blt f 160) 230 231)))) (cond (Nat.blt f 166) (cond (Nat.blt f 163) (cond (Nat.blt f 162) 232 999) (cond (Nat.blt f 164) 233 (cond (Nat.blt f 165) 999 234))) (cond (Nat.blt f 169) (cond (Nat.blt f 167) 235 999) (cond (Nat.blt f 170) 236 (cond (Nat.blt f 171) 237 999)))))))) 999) 999)) 999) 999) 999) 999))
/-- memory: ints, longs, lengths of what grows, where names lie, (cells made, cells left, slots left) -/
abbrev tvS : Type := (Nat → Nat → Int32) × (Nat → Nat → Int64) × (Nat → Nat) × (Nat → Nat) × Nat × Nat × Nat
def rd (σ : tvS) (k i : Nat) : Int32 := σ.1 k i
def rl (σ : tvS) (k i : Nat) : Int64 := σ.2.1 k i
def ln (σ : tvS) (k : Nat) : Nat := σ.2.2.1 k
def rh (σ : tvS) (k : Nat) : Nat := σ.2.2.2.1 k
def rm (σ : tvS) : Nat × Nat × Nat := σ.2.2.2.2
def wr (σ : tvS) (k i : Nat) (v : Int32) : tvS := (va_up σ.1 k (va_up (σ.1 k) i v), σ.2)
def wl (σ : tvS) (k i : Nat) (v : Int64) : tvS := (σ.1, va_up σ.2.1 k (va_up (σ.2.1 k) i v), σ.2.2)
/-- an array becomes longer -/
def gw (σ : tvS) (k n : Nat) : tvS := (va_up σ.1 k (va_cpy (σ.1 k) (fun _ => 0) 0 0 (min (ln σ k) n)), σ.2.1, va_up σ.2.2.1 k n, va_up σ.2.2.2.1 k (rm σ).1, (rm σ).1 + 1, (rm σ).2.1 - 1, (rm σ).2.2 - n)
/-- an exception is made -/
def xn (σ : tvS) : tvS := (σ.1, σ.2.1, σ.2.2.1, σ.2.2.2.1, (rm σ).1 + 1, (rm σ).2.1 - 1, (rm σ).2.2 - 6)
def le (σ : tvS) (k : Nat) : Nat := cond (grw k) (ln σ k) (lenN k)
/-- 0: an int; 1: a boolean; 2: a reference -/
def tv_kd (t : FieldType) : Nat := match t with
  | .int => 0
  | .boolean => 1
  | .array _ => 2
  | .object _ => 2
  | _ => 3
def b01 (x : Int32) : Bool := decide (x = 0) || decide (x = 1)
def ix (i : Int32) : Nat := i.toNatClampNeg
abbrev tvO : Type := Option Value ⊕ (Nat × Nat)
abbrev tvR : Type := Option (tvO × tvS)
/-- a field of a named object -/
def tv_fld (σ : tvS) (k ci f : Nat) : Option Value := cond (Nat.beq (tagN k) (10 + ci) && Nat.blt f (lenN k)) (cond (Nat.blt (tv_kd (ftP ci f)) 2) (some (.int (rd σ k f))) (cond (Nat.blt (refN k f) 239) (some (.ref (refN k f))) none)) none
def tv_pfl (σ : tvS) (k ci f : Nat) (x : Int32) : Option (Bool × tvS) := cond (Nat.beq (tagN k) (10 + ci) && Nat.blt f (lenN k) && !(finP ci f)) (cond (Nat.beq (tv_kd (ftP ci f)) 0) (some (true, wr σ k f x)) (cond (Nat.beq (tv_kd (ftP ci f)) 1) (some (b01 x, wr σ k f x)) none)) none
def slen (j : Nat) : Nat := (xaL.getD j (11, 0, fun _ => 0)).2.1
def schr (j i : Nat) : Int32 := (xaL.getD j (11, 0, fun _ => 0)).2.2 i
/-- locals: a row of values; 'jv' where there is none -/
abbrev tvL : Type := List Value
def jv : Value := .double 0
def jk (v : Value) : Value := match v with | .long _ => jv | v => v
def dj (v : Value) : Value := match v with | .ref k => cond (grw k) jv (.ref k) | v => v
def lg : List Value → Nat → Value
  | [], _ => jv
  | a :: _, 0 => a
  | _ :: r, k + 1 => lg r k
def ls1 : List Value → Nat → Value → List Value
  | [], _, _ => []
  | _ :: r, 0, v => v :: r
  | a :: r, 1, v => jk a :: ls1 r 0 v
  | a :: r, k + 2, v => a :: ls1 r (k + 1) v
def ls2 : List Value → Nat → Value → List Value
  | [], _, _ => []
  | _ :: [], 0, _ => [jv]
  | _ :: _ :: r, 0, v => v :: jv :: r
  | a :: r, 1, v => jk a :: ls2 r 0 v
  | a :: r, k + 2, v => a :: ls2 r (k + 1) v
def tv_arg : List Value → List Value
  | [] => []
  | v :: r => cond (Nat.beq v.category 2) (v :: jv :: tv_arg r) (v :: tv_arg r)
def tv_pad : Nat → List Value → List Value
  | 0, l => l
  | n + 1, [] => jv :: tv_pad n []
  | n + 1, a :: r => a :: tv_pad n r
def vI (v : Value) (K : Int32 → Option (Bool × tvL × List Value × tvS)) : Option (Bool × tvL × List Value × tvS) := match v with | .int x => K x | _ => none
def vL (v : Value) (K : Int64 → Option (Bool × tvL × List Value × tvS)) : Option (Bool × tvL × List Value × tvS) := match v with | .long x => K x | _ => none
/-- what goes straight on: the next locals, stack, memory -/
def tv_op (L : Nat) (xs : Nat → Int32) (i : Instr) (r1 r2 r3 : Nat) (ls : tvL) (st : List Value) (σ : tvS) : Option (Bool × tvL × List Value × tvS) :=
  match i with
  | .aload_n k => cond (pv_isR (lg ls k)) (some (true, ls, lg ls k :: st, σ)) none
  | .aload k => cond (pv_isR (lg ls k)) (some (true, ls, lg ls k :: st, σ)) none
  | .iload_n k => vI (lg ls k) (fun x => some (true, ls, .int x :: st, σ))
  | .iload k => vI (lg ls k) (fun x => some (true, ls, .int x :: st, σ))
  | .lload_n k => vL (lg ls k) (fun x => some (true, ls, .long x :: st, σ))
  | .lload k => vL (lg ls k) (fun x => some (true, ls, .long x :: st, σ))
  | .istore_n k => match st with
    | .int x :: r => cond (Nat.blt k ls.length) (some (true, ls1 ls k (.int x), r, σ)) none
    | _ => none
  | .istore k => match st with
    | .int x :: r => cond (Nat.blt k ls.length) (some (true, ls1 ls k (.int x), r, σ)) none
    | _ => none
  | .lstore_n k => match st with
    | .long x :: r => cond (Nat.blt (k + 1) ls.length) (some (true, ls2 ls k (.long x), r, σ)) none
    | _ => none
  | .lstore k => match st with
    | .long x :: r => cond (Nat.blt (k + 1) ls.length) (some (true, ls2 ls k (.long x), r, σ)) none
    | _ => none
  | .astore_n k => match st with
    | v :: r => cond (pv_isR v && Nat.blt k ls.length) (some (true, ls1 ls k v, r, σ)) none
    | _ => none
  | .astore k => match st with
    | v :: r => cond (pv_isR v && Nat.blt k ls.length) (some (true, ls1 ls k v, r, σ)) none
    | _ => none
  | .iinc k n => vI (lg ls k) (fun x => cond (Nat.blt k ls.length) (some (true, ls1 ls k (.int (x + Int32.ofInt n)), st, σ)) none)
  | .iconst n => some (true, ls, .int (Int32.ofInt n) :: st, σ)
  | .bipush n => some (true, ls, .int (Int8.ofInt n).toInt32 :: st, σ)
  | .sipush n => some (true, ls, .int (Int16.ofInt n).toInt32 :: st, σ)
  | .lconst n => some (true, ls, .long (Int64.ofNat (n : Nat)) :: st, σ)
  | .ldc _ => cond (Nat.beq r3 0) (some (true, ls, .int (Int32.ofNat r1) :: st, σ)) (some (true, ls, .float (UInt32.ofNat r1) :: st, σ))
  | .ldc_w _ => cond (Nat.beq r3 0) (some (true, ls, .int (Int32.ofNat r1) :: st, σ)) (some (true, ls, .float (UInt32.ofNat r1) :: st, σ))
  | .ldc2_w _ => some (true, ls, .long (Int64.ofNat r1) :: st, σ)
  | .aconst_null => some (true, ls, .null :: st, σ)
  | .iadd => match st with | .int y :: .int x :: r => some (true, ls, .int (x + y) :: r, σ) | _ => none
  | .isub => match st with | .int y :: .int x :: r => some (true, ls, .int (x - y) :: r, σ) | _ => none
  | .imul => match st with | .int y :: .int x :: r => some (true, ls, .int (x * y) :: r, σ) | _ => none
  | .iand => match st with | .int y :: .int x :: r => some (true, ls, .int (x &&& y) :: r, σ) | _ => none
  | .ior => match st with | .int y :: .int x :: r => some (true, ls, .int (x ||| y) :: r, σ) | _ => none
  | .idiv => match st with | .int y :: .int x :: r => some (!(decide (y = 0)), ls, .int (x / y) :: r, σ) | _ => none
  | .irem => match st with | .int y :: .int x :: r => some (!(decide (y = 0)), ls, .int (x - x / y * y) :: r, σ) | _ => none
  | .ladd => match st with | .long y :: .long x :: r => some (true, ls, .long (x + y) :: r, σ) | _ => none
  | .lsub => match st with | .long y :: .long x :: r => some (true, ls, .long (x - y) :: r, σ) | _ => none
  | .lmul => match st with | .long y :: .long x :: r => some (true, ls, .long (x * y) :: r, σ) | _ => none
  | .land => match st with | .long y :: .long x :: r => some (true, ls, .long (x &&& y) :: r, σ) | _ => none
  | .lor => match st with | .long y :: .long x :: r => some (true, ls, .long (x ||| y) :: r, σ) | _ => none
  | .ldiv => match st with | .long y :: .long x :: r => some (!(decide (y = 0)), ls, .long (x / y) :: r, σ) | _ => none
  | .lrem => match st with | .long y :: .long x :: r => some (!(decide (y = 0)), ls, .long (x - x / y * y) :: r, σ) | _ => none
  | .lneg => match st with | .long x :: r => some (true, ls, .long (-x) :: r, σ) | _ => none
  | .lshl => match st with | .int y :: .long x :: r => some (true, ls, .long (x <<< (y.toInt64 &&& 63)) :: r, σ) | _ => none
  | .lshr => match st with | .int y :: .long x :: r => some (true, ls, .long (x >>> (y.toInt64 &&& 63)) :: r, σ) | _ => none
  | .lushr => match st with | .int y :: .long x :: r => some (true, ls, .long ((x.toUInt64 >>> (y.toInt64.toUInt64 &&& Int64.toUInt64 63)).toInt64) :: r, σ) | _ => none
  | .lcmp => match st with | .long y :: .long x :: r => some (true, ls, .int (pv_lcmp x y) :: r, σ) | _ => none
  | .i2l => match st with | .int x :: r => some (true, ls, .long x.toInt64 :: r, σ) | _ => none
  | .i2b => match st with | .int x :: r => some (true, ls, .int x.toInt8.toInt32 :: r, σ) | _ => none
  | .i2c => match st with | .int x :: r => some (true, ls, .int (x.toUInt32 % 65536).toInt32 :: r, σ) | _ => none
  | .l2i => match st with | .long x :: r => some (true, ls, .int x.toInt32 :: r, σ) | _ => none
  | .dup => match st with | v :: r => cond (Nat.beq v.category 1) (some (true, ls, v :: v :: r, σ)) none | _ => none
  | .dup2 => (pv_dup2 st).bind (fun r => some (true, ls, r, σ))
  | .pop => match st with | v :: r => cond (Nat.beq v.category 1) (some (true, ls, r, σ)) none | _ => none
  | .getfield _ => match st with
    | .ref k :: r => (tv_fld σ k r1 r2).bind (fun v => some (true, ls, v :: r, σ))
    | _ => none
  | .putfield _ => match st with
    | .int x :: .ref k :: r => (tv_pfl σ k r1 r2 x).bind (fun q => some (q.1, ls, r, q.2))
    | _ => none
  | .iaload => match st with
    | .int i :: .ref k :: r => cond (Nat.beq (tagN k) 0) (some (pv_in i (le σ k), ls, .int (rd σ k (ix i)) :: r, σ)) none
    | .int i :: .retAddr j :: r => cond (Nat.beq j 0) (some (pv_in i L, ls, .int (xs (ix i)) :: r, σ)) none
    | _ => none
  | .baload => match st with
    | .int i :: .ref k :: r => cond (Nat.beq (tagN k) (cond (Nat.beq r3 0) 1 3)) (some (pv_in i (le σ k), ls, .int (rd σ k (ix i)) :: r, σ)) none
    | _ => none
  | .laload => match st with
    | .int i :: .ref k :: r => cond (Nat.beq (tagN k) 2) (some (pv_in i (le σ k), ls, .long (rl σ k (ix i)) :: r, σ)) none
    | _ => none
  | .iastore => match st with
    | .int x :: .int i :: .ref k :: r => cond (Nat.beq (tagN k) 0) (some (pv_in i (le σ k), ls, r, wr σ k (ix i) x)) none
    | _ => none
  | .bastore => match st with
    | .int x :: .int i :: .ref k :: r => cond (Nat.beq (tagN k) (cond (Nat.beq r3 0) 1 3)) (some (pv_in i (le σ k), ls, r, wr σ k (ix i) (vp_nar (cond (Nat.beq r3 0) .byte .boolean) x))) none
    | _ => none
  | .lastore => match st with
    | .long x :: .int i :: .ref k :: r => cond (Nat.beq (tagN k) 2) (some (pv_in i (le σ k), ls, r, wl σ k (ix i) x)) none
    | _ => none
  | .arraylength => match st with
    | .ref k :: r => cond (Nat.blt (tagN k) 5) (some (true, ls, .int (Int32.ofNat (le σ k)) :: r, σ)) none
    | .retAddr j :: r => cond (Nat.beq j 0) (some (true, ls, .int (Int32.ofNat L) :: r, σ)) none
    | _ => none
  | _ => none
/-! how it goes on -/
def tv_go (z : Int) : Option Nat := if 0 ≤ z then some z.toNat else none
def tv_sw (i : Instr) (pc : Nat) (x : Int32) : Option Nat := match i with
  | .tableswitch dflt lo hi offs => if x.toInt < lo ∨ hi < x.toInt then tv_go ((pc : Int) + dflt) else match offs[(x.toInt - lo).toNat]? with
    | some off => tv_go ((pc : Int) + off)
    | none => none
  | .lookupswitch dflt ps => if (ps.toList.zip (ps.toList.drop 1)).all (fun (a, next) => a.1 < next.1) = true then tv_go ((pc : Int) + Op.lookupswitch.offset ps.toList dflt x.toInt) else none
  | _ => none
def swk (M pc : Nat) (x : Int32) (K : Nat → tvR) : tvR := match insP M pc with
  | some (i, _, _, _, _) => (tv_sw i pc x).bind K
  | none => none
def bV (r : tvR) (K : tvS → tvR) (X : Nat → Nat → tvS → tvR) : tvR := match r with
  | some (.inl none, σ) => K σ
  | some (.inr (t, k), σ) => X t k σ
  | _ => none
def bI (r : tvR) (K : Int32 → tvS → tvR) (X : Nat → Nat → tvS → tvR) : tvR := match r with
  | some (.inl (some (.int x)), σ) => K x σ
  | some (.inr (t, k), σ) => X t k σ
  | _ => none
def bL (r : tvR) (K : Int64 → tvS → tvR) (X : Nat → Nat → tvS → tvR) : tvR := match r with
  | some (.inl (some (.long x)), σ) => K x σ
  | some (.inr (t, k), σ) => X t k σ
  | _ => none
def bF (r : tvR) (K : UInt32 → tvS → tvR) (X : Nat → Nat → tvS → tvR) : tvR := match r with
  | some (.inl (some (.float x)), σ) => K x σ
  | some (.inr (t, k), σ) => X t k σ
  | _ => none
def X0 (t k : Nat) (σ : tvS) : tvR := some (.inr (t, k), σ)
/-- what a method answers: 0 nothing, 1 an int, 2 a long, 3 a String -/
def tv_rk (M : Nat) : Nat := match (miP M).2.1 with
  | none => 0
  | some .long => 2
  | some (.object _) => 3
  | some (.array _) => 3
  | some _ => 1
def bC (rk : Nat) (r : tvR) (K : List Value → tvS → tvR) (X : Nat → Nat → tvS → tvR) : tvR :=
  cond (Nat.beq rk 0) (bV r (fun σ => K [] σ) X) (cond (Nat.beq rk 1) (bI r (fun x σ => K [.int x] σ) X) (cond (Nat.beq rk 2) (bL r (fun x σ => K [.long x] σ) X) (bF r (fun x σ => K [.float x] σ) X)))
def tv_ck1 (σ σ2 : tvS) (v : Value) : Bool := match v with
  | .ref k => !(grw k) || Nat.beq (rh σ k) (rh σ2 k)
  | _ => true
def tv_chk (rest : List Value) (σ σ2 : tvS) : Bool := rest.all (fun v => tv_ck1 σ σ2 v)
def tv_nor (k : Nat) (rest : List Value) : Bool := rest.all (fun v => match v with | .ref j => !(Nat.beq j k) | _ => true)
def gwOK (σ : tvS) (k : Nat) (n : Int32) : Bool := decide (¬ n < 0) && (Nat.blt (ln σ k) (ix n) && (Nat.ble (ix n) 10000000 && (Nat.ble 1 (rm σ).2.1 && Nat.ble (ix n) (rm σ).2.2)))
def xnOK (σ : tvS) : Bool := Nat.ble 1 (rm σ).2.1 && Nat.ble 6 (rm σ).2.2
def mI (st : List Value) (K : Int32 → List Value → tvR) : tvR := match st with | .int x :: r => K x r | _ => none
def mII (st : List Value) (K : Int32 → Int32 → List Value → tvR) : tvR := match st with | .int y :: .int x :: r => K x y r | _ => none
def mR (st : List Value) (K K0 : List Value → tvR) : tvR := match st with | .ref _ :: r => K r | .null :: r => K0 r | _ => none
def mF (st : List Value) (K : UInt32 → List Value → tvR) : tvR := match st with | .float j :: r => K j r | _ => none
def mIF (st : List Value) (K : Int32 → UInt32 → List Value → tvR) : tvR := match st with | .int i :: .float j :: r => K i j r | _ => none
def mG (st : List Value) (K : Int32 → Nat → Nat → List Value → tvR) : tvR := match st with | .int n :: .ref k :: .ref o :: r => K n k o r | _ => none
def m1I (st : List Value) (K : Int32 → tvR) : tvR := match st with | [.int x] => K x | _ => none
def m1L (st : List Value) (K : Int64 → tvR) : tvR := match st with | [.long x] => K x | _ => none
def m1F (st : List Value) (K : UInt32 → tvR) : tvR := match st with | [.float x] => K x | _ => none
def m0 (st : List Value) (K : tvR) : tvR := match st with | [] => K | _ => none
def opk (o : Option (Bool × tvL × List Value × tvS)) (K : tvL → List Value → tvS → tvR) : tvR := match o with | some (g, ls, st, σ) => cond g (K ls st σ) none | none => none
def tv_hx (h : Option Nat) (K : Nat → tvR) (x : tvR) : tvR := match h with | none => x | some hp => K hp
def mD (d : Nat) (K : Nat → tvR) : tvR := match d with | 0 => none | d' + 1 => K d'
def mP (q : Option pvI) (K : Nat → Nat → tvR) : tvR := match q with | some (.putfield _, _, ci, f, _) => K ci f | _ => none
def rtI (t : Option FieldType) (x : Int32) (σ : tvS) : tvR := match t with | some .int => some (.inl (some (.int x)), σ) | some .boolean => cond (b01 x) (some (.inl (some (.int x)), σ)) none | _ => none
def rtL (t : Option FieldType) (x : Int64) (σ : tvS) : tvR := match t with | some .long => some (.inl (some (.long x)), σ) | _ => none
def rtF (t : Option FieldType) (x : UInt32) (σ : tvS) : tvR := match t with | some (.object _) => some (.inl (some (.float x)), σ) | _ => none
def rtV (t : Option FieldType) (σ : tvS) : tvR := match t with | none => some (.inl none, σ) | _ => none
def tv_recv (ci : Nat) (v : Option Value) : Bool := match v with
  | some (.ref k) => Nat.beq (tagN k) (10 + ci) && Nat.blt k 239
  | _ => false
section TVG
variable (E : Nat → Nat → Nat → tvL → List Value → tvS → tvR) (N : Nat → tvL → List Value → tvS → tvR)
def tv_call (d M pc M' n : Nat) (ls : tvL) (st : List Value) (σ : tvS) : tvR :=
  cond (Nat.ble n st.length && (Nat.ble ((st.drop n).map Value.category).sum 24 && Nat.ble ((st.take n).map Value.category).sum (miP M').2.2.1))
   (mD d (fun d' => bC (tv_rk M') (E d' M' 0 (tv_pad (miP M').2.2.1 (tv_arg (st.take n).reverse)) [] σ)
        (fun vs σ2 => cond (tv_chk (st.drop n) σ σ2) (N (pc + 3) (ls.map dj) (vs ++ st.drop n) σ2) none)
        (fun t k σ2 => tv_hx (pv_hnd (miP M).2.2.2 pc t) (fun hp => E (d' + 1) M hp (ls.map dj) [.ref (239 + k)] σ2) (some (.inr (t, k), σ2))))) none
def tv_grow (d M pc : Nat) (ls : tvL) (st : List Value) (σ : tvS) : tvR := mG st (fun n k o r => mP (insP M (pc + 3)) (fun ci f =>
  cond (grw k && (Nat.beq (tagN o) (10 + ci) && (Nat.blt f (lenN o) && (Nat.beq (refN o f) k && (!(finP ci f) && (Nat.beq (tv_kd (ftP ci f)) 2 && (tv_nor k r && Nat.ble ((Value.ref 0 :: r).map Value.category).sum 24)))))))
        (cond (gwOK σ k n) (E d M (pc + 6) (ls.map dj) r (gw σ k (ix n))) none) none))
def tv_G (L : Nat) (xs : Nat → Int32) (d M pc : Nat) (i : Instr) (r1 r2 r3 : Nat) (ls : tvL) (st : List Value) (σ : tvS) : tvR := match i with
  | .ifCond c _ => mI st (fun x r => cond (pv_c1 c x) (E d M r1 ls r σ) (N (pc + 3) ls r σ))
  | .if_icmp c _ => mII st (fun x y r => cond (pv_c2 c x y) (E d M r1 ls r σ) (N (pc + 3) ls r σ))
  | .ifnull _ => mR st (fun r => N (pc + 3) ls r σ) (fun r => E d M r1 ls r σ)
  | .goto _ => E d M r1 ls st σ
  | .tableswitch _ _ _ _ => mI st (fun x r => swk M pc x (fun pc' => E d M pc' ls r σ))
  | .lookupswitch _ _ => mI st (fun x r => swk M pc x (fun pc' => E d M pc' ls r σ))
  | .new _ => cond (Nat.beq r3 4 && (Nat.beq (nfP r1) 6 && (Nat.ble ((st.map Value.category).sum) 24 && (miP M).2.2.2.isEmpty))) (cond (xnOK σ) (some (.inr (1000 + r1, (rm σ).1), xn σ)) none) none
  | .invokevirtual _ => cond (Nat.beq r1 431) (mF st (fun j r => cond (Nat.beq r2 1 && (Nat.beq r3 90 && (Nat.blt j.toNat 23 && Nat.ble ((r.map Value.category).sum) 24))) (mD d (fun _ => N (pc + 3) ls (.int (Int32.ofNat (slen j.toNat)) :: r) σ)) none))
      (cond (Nat.beq r1 433) (mIF st (fun i j r => cond (Nat.beq r2 2 && (Nat.beq r3 90 && (Nat.blt j.toNat 23 && Nat.ble ((r.map Value.category).sum) 24))) (mD d (fun _ => cond (pv_in i (slen j.toNat)) (N (pc + 3) ls (.int (schr j.toNat (ix i)) :: r) σ) none)) none))
      (cond (tv_recv r3 st[r2 - 1]? && Nat.ble 1 r2) (tv_call E N d M pc r1 r2 ls st σ) none))
  | .invokestatic _ => cond (Nat.beq r3 0) (cond (Nat.beq r1 440) (mD d (fun _ => cond (Nat.beq r2 2) (tv_grow E d M pc ls st σ) none)) (tv_call E N d M pc r1 r2 ls st σ)) none
  | .ireturn => m1I st (fun x => rtI (miP M).2.1 x σ)
  | .lreturn => m1L st (fun x => rtL (miP M).2.1 x σ)
  | .areturn => m1F st (fun x => rtF (miP M).2.1 x σ)
  | .return_ => m0 st (rtV (miP M).2.1 σ)
  | i => opk (tv_op L xs i r1 r2 r3 ls st σ) (fun ls' st' σ' => N (pc + (pv_len i).getD 0) ls' st' σ')
end TVG
def tv_exec (L : Nat) (xs : Nat → Int32) : Nat → Nat → Nat → Nat → tvL → List Value → tvS → tvR
  | 0, _, _, _, _, _, _ => none
  | n + 1, d, M, pc, ls, st, σ => match insP M pc with
    | none => none
    | some (i, _, r1, r2, r3) => tv_G (tv_exec L xs n) (fun pc' ls' st' σ' => tv_exec L xs n d M pc' ls' st' σ') L xs d M pc i r1 r2 r3 ls st σ
