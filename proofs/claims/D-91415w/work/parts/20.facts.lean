/-! facts that the walks use (printed by gen/build.py) -/
theorem fd_X10_7 : amFd RX10 7 6 18 (0, 0, 0) [7] := ⟨by decide, by decide, fun c hc => by
  obtain rfl : c = 7 := List.mem_singleton.mp hc
  exact ⟨RX10, TX10, 19, "CityBrigade$Steamer", rfl, by decide, rfl, in_X10, Or.inl q855, Or.inl rfl⟩⟩
theorem fd_X11_9 : amFd RX11 9 6 16 (0, 0, 0) [8] := ⟨by decide, by decide, fun c hc => by
  obtain rfl : c = 8 := List.mem_singleton.mp hc
  exact ⟨RX11, TX11, 17, "CityBrigade$Ladder", rfl, by decide, rfl, in_X11, Or.inl q883, Or.inl rfl⟩⟩
theorem fd_X13_15 : amFd RX13 15 7 4 (0, 0, 0) (am_kl 7) := ⟨by decide, by decide, fun c hc => by
  obtain rfl : c = 10 := List.mem_singleton.mp hc
  exact ⟨RX13, TX13, 10, "CityBrigade$Call", rfl, by decide, rfl, in_X13, Or.inl q1423, Or.inl rfl⟩⟩
theorem fd_X13_18 : amFd RX13 18 7 5 (0, 0, 0) (am_kl 7) := ⟨by decide, by decide, fun c hc => by
  obtain rfl : c = 10 := List.mem_singleton.mp hc
  exact ⟨RX13, TX13, 10, "CityBrigade$Call", rfl, by decide, rfl, in_X13, Or.inl q1425, Or.inl rfl⟩⟩
theorem fd_X13_21 : amFd RX13 21 7 8 (0, 0, 0) (am_kl 7) := ⟨by decide, by decide, fun c hc => by
  obtain rfl : c = 10 := List.mem_singleton.mp hc
  exact ⟨RX13, TX13, 10, "CityBrigade$Call", rfl, by decide, rfl, in_X13, Or.inl q1429, Or.inl rfl⟩⟩
theorem fd_X13_24 : amFd RX13 24 7 0 (0, 0, 0) (am_kl 7) := ⟨by decide, by decide, fun c hc => by
  obtain rfl : c = 10 := List.mem_singleton.mp hc
  exact ⟨RX13, TX13, 10, "CityBrigade$Call", rfl, by decide, rfl, in_X13, Or.inl q1415, Or.inl rfl⟩⟩
theorem fd_X13_27 : amFd RX13 27 7 1 (0, 0, 0) (am_kl 7) := ⟨by decide, by decide, fun c hc => by
  obtain rfl : c = 10 := List.mem_singleton.mp hc
  exact ⟨RX13, TX13, 10, "CityBrigade$Call", rfl, by decide, rfl, in_X13, Or.inl q1417, Or.inl rfl⟩⟩
theorem fd_X13_30 : amFd RX13 30 7 2 (0, 0, 0) (am_kl 7) := ⟨by decide, by decide, fun c hc => by
  obtain rfl : c = 10 := List.mem_singleton.mp hc
  exact ⟨RX13, TX13, 10, "CityBrigade$Call", rfl, by decide, rfl, in_X13, Or.inl q1419, Or.inl rfl⟩⟩
theorem fd_X13_9 : amFd RX13 9 7 3 (0, 0, 0) (am_kl 7) := ⟨by decide, by decide, fun c hc => by
  obtain rfl : c = 10 := List.mem_singleton.mp hc
  exact ⟨RX13, TX13, 10, "CityBrigade$Call", rfl, by decide, rfl, in_X13, Or.inl q1421, Or.inl rfl⟩⟩
theorem fd_X15_7 : amFd RX15 7 10 0 (1, 10, 0) [16] := ⟨by decide, by decide, fun c hc => by
  obtain rfl : c = 16 := List.mem_singleton.mp hc
  exact ⟨RX15, TX15, 1, "CityBrigade$Not", rfl, by decide, rfl, in_X15, Or.inl q1093, Or.inl rfl⟩⟩
theorem fd_X17_7 : amFd RX17 7 9 0 (0, 0, 0) [13] := ⟨by decide, by decide, fun c hc => by
  obtain rfl : c = 13 := List.mem_singleton.mp hc
  exact ⟨RX17, TX17, 1, "CityBrigade$Letter", rfl, by decide, rfl, in_X17, Or.inl q1212, Or.inl rfl⟩⟩
theorem fd_X18_7 : amFd RX18 7 9 0 (0, 0, 0) [12] := ⟨by decide, by decide, fun c hc => by
  obtain rfl : c = 12 := List.mem_singleton.mp hc
  exact ⟨RX18, TX18, 1, "CityBrigade$Number", rfl, by decide, rfl, in_X18, Or.inl q1229, Or.inl rfl⟩⟩
theorem fd_X19_15 : amFd RX19 15 9 1 (1, 9, 0) [14] := ⟨by decide, by decide, fun c hc => by
  obtain rfl : c = 14 := List.mem_singleton.mp hc
  exact ⟨RX19, TX19, 3, "CityBrigade$Two", rfl, by decide, rfl, in_X19, Or.inl q1240, Or.inl rfl⟩⟩
theorem fd_X19_19 : amFd RX19 19 9 2 (1, 9, 0) [14] := ⟨by decide, by decide, fun c hc => by
  obtain rfl : c = 14 := List.mem_singleton.mp hc
  exact ⟨RX19, TX19, 3, "CityBrigade$Two", rfl, by decide, rfl, in_X19, Or.inl q1241, Or.inl rfl⟩⟩
theorem fd_X19_9 : amFd RX19 9 9 0 (0, 0, 0) [14] := ⟨by decide, by decide, fun c hc => by
  obtain rfl : c = 14 := List.mem_singleton.mp hc
  exact ⟨RX19, TX19, 3, "CityBrigade$Two", rfl, by decide, rfl, in_X19, Or.inl q1239, Or.inl rfl⟩⟩
theorem fd_X1_102 : amFd RX1 102 0 36 (5, 41, 1) (am_kl 0) := ⟨by decide, by decide, fun c hc => by
  obtain rfl : c = 0 := List.mem_singleton.mp hc
  exact ⟨RX1, TX1, 58, "CityBrigade", rfl, by decide, rfl, in_X1, Or.inl q324, Or.inl rfl⟩⟩
theorem fd_X1_105 : amFd RX1 105 0 40 (5, 42, 1) (am_kl 0) := ⟨by decide, by decide, fun c hc => by
  obtain rfl : c = 0 := List.mem_singleton.mp hc
  exact ⟨RX1, TX1, 58, "CityBrigade", rfl, by decide, rfl, in_X1, Or.inl q328, Or.inl rfl⟩⟩
theorem fd_X1_108 : amFd RX1 108 0 41 (5, 43, 1) (am_kl 0) := ⟨by decide, by decide, fun c hc => by
  obtain rfl : c = 0 := List.mem_singleton.mp hc
  exact ⟨RX1, TX1, 58, "CityBrigade", rfl, by decide, rfl, in_X1, Or.inl q329, Or.inl rfl⟩⟩
theorem fd_X1_111 : amFd RX1 111 0 42 (5, 44, 1) (am_kl 0) := ⟨by decide, by decide, fun c hc => by
  obtain rfl : c = 0 := List.mem_singleton.mp hc
  exact ⟨RX1, TX1, 58, "CityBrigade", rfl, by decide, rfl, in_X1, Or.inl q330, Or.inl rfl⟩⟩
theorem fd_X1_114 : amFd RX1 114 0 43 (5, 45, 1) (am_kl 0) := ⟨by decide, by decide, fun c hc => by
  obtain rfl : c = 0 := List.mem_singleton.mp hc
  exact ⟨RX1, TX1, 58, "CityBrigade", rfl, by decide, rfl, in_X1, Or.inl q331, Or.inl rfl⟩⟩
theorem fd_X1_119 : amFd RX1 119 0 44 (5, 47, 1) (am_kl 0) := ⟨by decide, by decide, fun c hc => by
  obtain rfl : c = 0 := List.mem_singleton.mp hc
  exact ⟨RX1, TX1, 58, "CityBrigade", rfl, by decide, rfl, in_X1, Or.inl q332, Or.inl rfl⟩⟩
theorem fd_X1_122 : amFd RX1 122 0 50 (5, 49, 1) (am_kl 0) := ⟨by decide, by decide, fun c hc => by
  obtain rfl : c = 0 := List.mem_singleton.mp hc
  exact ⟨RX1, TX1, 58, "CityBrigade", rfl, by decide, rfl, in_X1, Or.inl q338, Or.inl rfl⟩⟩
theorem fd_X1_125 : amFd RX1 125 0 51 (5, 50, 1) (am_kl 0) := ⟨by decide, by decide, fun c hc => by
  obtain rfl : c = 0 := List.mem_singleton.mp hc
  exact ⟨RX1, TX1, 58, "CityBrigade", rfl, by decide, rfl, in_X1, Or.inl q339, Or.inl rfl⟩⟩
theorem fd_X1_128 : amFd RX1 128 0 52 (5, 51, 1) (am_kl 0) := ⟨by decide, by decide, fun c hc => by
  obtain rfl : c = 0 := List.mem_singleton.mp hc
  exact ⟨RX1, TX1, 58, "CityBrigade", rfl, by decide, rfl, in_X1, Or.inl q340, Or.inl rfl⟩⟩
theorem fd_X1_131 : amFd RX1 131 0 53 (5, 52, 1) (am_kl 0) := ⟨by decide, by decide, fun c hc => by
  obtain rfl : c = 0 := List.mem_singleton.mp hc
  exact ⟨RX1, TX1, 58, "CityBrigade", rfl, by decide, rfl, in_X1, Or.inl q341, Or.inl rfl⟩⟩
theorem fd_X1_136 : amFd RX1 136 0 55 (5, 53, 1) (am_kl 0) := ⟨by decide, by decide, fun c hc => by
  obtain rfl : c = 0 := List.mem_singleton.mp hc
  exact ⟨RX1, TX1, 58, "CityBrigade", rfl, by decide, rfl, in_X1, Or.inl q343, Or.inl rfl⟩⟩
theorem fd_X1_140 : amFd RX1 140 0 56 (5, 54, 1) (am_kl 0) := ⟨by decide, by decide, fun c hc => by
  obtain rfl : c = 0 := List.mem_singleton.mp hc
  exact ⟨RX1, TX1, 58, "CityBrigade", rfl, by decide, rfl, in_X1, Or.inl q344, Or.inl rfl⟩⟩
theorem fd_X1_147 : amFd RX1 147 0 2 (0, 0, 0) (am_kl 0) := ⟨by decide, by decide, fun c hc => by
  obtain rfl : c = 0 := List.mem_singleton.mp hc
  exact ⟨RX1, TX1, 58, "CityBrigade", rfl, by decide, rfl, in_X1, Or.inl q290, Or.inl rfl⟩⟩
theorem fd_X1_15 : amFd RX1 15 0 1 (5, 20, 1) (am_kl 0) := ⟨by decide, by decide, fun c hc => by
  obtain rfl : c = 0 := List.mem_singleton.mp hc
  exact ⟨RX1, TX1, 58, "CityBrigade", rfl, by decide, rfl, in_X1, Or.inl q289, Or.inl rfl⟩⟩
theorem fd_X1_157 : amFd RX1 157 2 3 (2, 142, 0) (am_kl 2) := ⟨by decide, by decide, fun c hc => by
  obtain rfl : c = 2 := List.mem_singleton.mp hc
  exact ⟨RX4, TX4, 5, "CityBrigade$Street", rfl, by decide, rfl, in_X4, Or.inr ⟨_, q486⟩, Or.inl rfl⟩⟩
theorem fd_X1_160 : amFd RX1 160 2 4 (0, 0, 0) (am_kl 2) := ⟨by decide, by decide, fun c hc => by
  obtain rfl : c = 2 := List.mem_singleton.mp hc
  exact ⟨RX4, TX4, 5, "CityBrigade$Street", rfl, by decide, rfl, in_X4, Or.inr ⟨_, q487⟩, Or.inl rfl⟩⟩
theorem fd_X1_174 : amFd RX1 174 2 0 (0, 0, 0) (am_kl 2) := ⟨by decide, by decide, fun c hc => by
  obtain rfl : c = 2 := List.mem_singleton.mp hc
  exact ⟨RX4, TX4, 5, "CityBrigade$Street", rfl, by decide, rfl, in_X4, Or.inr ⟨_, q480⟩, Or.inl rfl⟩⟩
theorem fd_X1_177 : amFd RX1 177 2 1 (0, 0, 0) (am_kl 2) := ⟨by decide, by decide, fun c hc => by
  obtain rfl : c = 2 := List.mem_singleton.mp hc
  exact ⟨RX4, TX4, 5, "CityBrigade$Street", rfl, by decide, rfl, in_X4, Or.inr ⟨_, q482⟩, Or.inl rfl⟩⟩
theorem fd_X1_189 : amFd RX1 189 2 2 (0, 0, 0) (am_kl 2) := ⟨by decide, by decide, fun c hc => by
  obtain rfl : c = 2 := List.mem_singleton.mp hc
  exact ⟨RX4, TX4, 5, "CityBrigade$Street", rfl, by decide, rfl, in_X4, Or.inr ⟨_, q484⟩, Or.inl rfl⟩⟩
theorem fd_X1_199 : amFd RX1 199 0 6 (0, 0, 0) (am_kl 0) := ⟨by decide, by decide, fun c hc => by
  obtain rfl : c = 0 := List.mem_singleton.mp hc
  exact ⟨RX1, TX1, 58, "CityBrigade", rfl, by decide, rfl, in_X1, Or.inl q294, Or.inl rfl⟩⟩
theorem fd_X1_209 : amFd RX1 209 3 2 (0, 0, 0) (am_kl 3) := ⟨by decide, by decide, fun c hc => by
  obtain rfl : c = 3 := List.mem_singleton.mp hc
  exact ⟨RX5, TX5, 16, "CityBrigade$House", rfl, by decide, rfl, in_X5, Or.inr ⟨_, q599⟩, Or.inl rfl⟩⟩
theorem fd_X1_21 : amFd RX1 21 0 3 (5, 22, 1) (am_kl 0) := ⟨by decide, by decide, fun c hc => by
  obtain rfl : c = 0 := List.mem_singleton.mp hc
  exact ⟨RX1, TX1, 58, "CityBrigade", rfl, by decide, rfl, in_X1, Or.inl q291, Or.inl rfl⟩⟩
theorem fd_X1_215 : amFd RX1 215 3 5 (0, 0, 0) (am_kl 3) := ⟨by decide, by decide, fun c hc => by
  obtain rfl : c = 3 := List.mem_singleton.mp hc
  exact ⟨RX5, TX5, 16, "CityBrigade$House", rfl, by decide, rfl, in_X5, Or.inr ⟨_, q604⟩, Or.inl rfl⟩⟩
theorem fd_X1_218 : amFd RX1 218 3 6 (0, 0, 0) (am_kl 3) := ⟨by decide, by decide, fun c hc => by
  obtain rfl : c = 3 := List.mem_singleton.mp hc
  exact ⟨RX5, TX5, 16, "CityBrigade$House", rfl, by decide, rfl, in_X5, Or.inr ⟨_, q605⟩, Or.inl rfl⟩⟩
theorem fd_X1_221 : amFd RX1 221 3 7 (0, 0, 0) (am_kl 3) := ⟨by decide, by decide, fun c hc => by
  obtain rfl : c = 3 := List.mem_singleton.mp hc
  exact ⟨RX5, TX5, 16, "CityBrigade$House", rfl, by decide, rfl, in_X5, Or.inr ⟨_, q607⟩, Or.inl rfl⟩⟩
theorem fd_X1_228 : amFd RX1 228 3 8 (0, 0, 0) (am_kl 3) := ⟨by decide, by decide, fun c hc => by
  obtain rfl : c = 3 := List.mem_singleton.mp hc
  exact ⟨RX5, TX5, 16, "CityBrigade$House", rfl, by decide, rfl, in_X5, Or.inr ⟨_, q608⟩, Or.inl rfl⟩⟩
theorem fd_X1_235 : amFd RX1 235 3 14 (3, 4, 2) (am_kl 3) := ⟨by decide, by decide, fun c hc => by
  obtain rfl : c = 3 := List.mem_singleton.mp hc
  exact ⟨RX5, TX5, 16, "CityBrigade$House", rfl, by decide, rfl, in_X5, Or.inr ⟨_, q617⟩, Or.inl rfl⟩⟩
theorem fd_X1_239 : amFd RX1 239 4 4 (2, 149, 4) (am_kl 4) := ⟨by decide, by decide, fun c hc => by
  obtain rfl : c = 4 := List.mem_singleton.mp hc
  exact ⟨RX6, TX6, 7, "CityBrigade$Blaze", rfl, by decide, rfl, in_X6, Or.inr ⟨_, q574⟩, Or.inl rfl⟩⟩
theorem fd_X1_24 : amFd RX1 24 0 4 (5, 23, 1) (am_kl 0) := ⟨by decide, by decide, fun c hc => by
  obtain rfl : c = 0 := List.mem_singleton.mp hc
  exact ⟨RX1, TX1, 58, "CityBrigade", rfl, by decide, rfl, in_X1, Or.inl q292, Or.inl rfl⟩⟩
theorem fd_X1_245 : amFd RX1 245 3 3 (0, 0, 0) (am_kl 3) := ⟨by decide, by decide, fun c hc => by
  obtain rfl : c = 3 := List.mem_singleton.mp hc
  exact ⟨RX5, TX5, 16, "CityBrigade$House", rfl, by decide, rfl, in_X5, Or.inr ⟨_, q601⟩, Or.inl rfl⟩⟩
theorem fd_X1_248 : amFd RX1 248 4 1 (2, 146, 1) (am_kl 4) := ⟨by decide, by decide, fun c hc => by
  obtain rfl : c = 4 := List.mem_singleton.mp hc
  exact ⟨RX6, TX6, 7, "CityBrigade$Blaze", rfl, by decide, rfl, in_X6, Or.inr ⟨_, q566⟩, Or.inl rfl⟩⟩
theorem fd_X1_251 : amFd RX1 251 3 13 (2, 144, 1) (am_kl 3) := ⟨by decide, by decide, fun c hc => by
  obtain rfl : c = 3 := List.mem_singleton.mp hc
  exact ⟨RX5, TX5, 16, "CityBrigade$House", rfl, by decide, rfl, in_X5, Or.inr ⟨_, q615⟩, Or.inl rfl⟩⟩
theorem fd_X1_254 : amFd RX1 254 3 12 (2, 143, 0) (am_kl 3) := ⟨by decide, by decide, fun c hc => by
  obtain rfl : c = 3 := List.mem_singleton.mp hc
  exact ⟨RX5, TX5, 16, "CityBrigade$House", rfl, by decide, rfl, in_X5, Or.inr ⟨_, q613⟩, Or.inl rfl⟩⟩
theorem fd_X1_266 : amFd RX1 266 4 0 (2, 145, 0) (am_kl 4) := ⟨by decide, by decide, fun c hc => by
  obtain rfl : c = 4 := List.mem_singleton.mp hc
  exact ⟨RX6, TX6, 7, "CityBrigade$Blaze", rfl, by decide, rfl, in_X6, Or.inr ⟨_, q563⟩, Or.inl rfl⟩⟩
theorem fd_X1_278 : amFd RX1 278 4 3 (2, 148, 3) (am_kl 4) := ⟨by decide, by decide, fun c hc => by
  obtain rfl : c = 4 := List.mem_singleton.mp hc
  exact ⟨RX6, TX6, 7, "CityBrigade$Blaze", rfl, by decide, rfl, in_X6, Or.inr ⟨_, q571⟩, Or.inl rfl⟩⟩
theorem fd_X1_292 : amFd RX1 292 3 9 (0, 0, 0) (am_kl 3) := ⟨by decide, by decide, fun c hc => by
  obtain rfl : c = 3 := List.mem_singleton.mp hc
  exact ⟨RX5, TX5, 16, "CityBrigade$House", rfl, by decide, rfl, in_X5, Or.inr ⟨_, q609⟩, Or.inl rfl⟩⟩
theorem fd_X1_295 : amFd RX1 295 3 10 (0, 0, 0) (am_kl 3) := ⟨by decide, by decide, fun c hc => by
  obtain rfl : c = 3 := List.mem_singleton.mp hc
  exact ⟨RX5, TX5, 16, "CityBrigade$House", rfl, by decide, rfl, in_X5, Or.inr ⟨_, q610⟩, Or.inl rfl⟩⟩
theorem fd_X1_30 : amFd RX1 30 0 5 (5, 24, 1) (am_kl 0) := ⟨by decide, by decide, fun c hc => by
  obtain rfl : c = 0 := List.mem_singleton.mp hc
  exact ⟨RX1, TX1, 58, "CityBrigade", rfl, by decide, rfl, in_X1, Or.inl q293, Or.inl rfl⟩⟩
theorem fd_X1_305 : amFd RX1 305 3 11 (0, 0, 0) (am_kl 3) := ⟨by decide, by decide, fun c hc => by
  obtain rfl : c = 3 := List.mem_singleton.mp hc
  exact ⟨RX5, TX5, 16, "CityBrigade$House", rfl, by decide, rfl, in_X5, Or.inr ⟨_, q611⟩, Or.inl rfl⟩⟩
theorem fd_X1_308 : amFd RX1 308 3 0 (0, 0, 0) (am_kl 3) := ⟨by decide, by decide, fun c hc => by
  obtain rfl : c = 3 := List.mem_singleton.mp hc
  exact ⟨RX5, TX5, 16, "CityBrigade$House", rfl, by decide, rfl, in_X5, Or.inr ⟨_, q595⟩, Or.inl rfl⟩⟩
theorem fd_X1_315 : amFd RX1 315 3 15 (4, 4, 3) (am_kl 3) := ⟨by decide, by decide, fun c hc => by
  obtain rfl : c = 3 := List.mem_singleton.mp hc
  exact ⟨RX5, TX5, 16, "CityBrigade$House", rfl, by decide, rfl, in_X5, Or.inr ⟨_, q619⟩, Or.inl rfl⟩⟩
theorem fd_X1_322 : amFd RX1 322 4 5 (2, 150, 5) (am_kl 4) := ⟨by decide, by decide, fun c hc => by
  obtain rfl : c = 4 := List.mem_singleton.mp hc
  exact ⟨RX6, TX6, 7, "CityBrigade$Blaze", rfl, by decide, rfl, in_X6, Or.inr ⟨_, q576⟩, Or.inl rfl⟩⟩
theorem fd_X1_325 : amFd RX1 325 3 4 (0, 0, 0) (am_kl 3) := ⟨by decide, by decide, fun c hc => by
  obtain rfl : c = 3 := List.mem_singleton.mp hc
  exact ⟨RX5, TX5, 16, "CityBrigade$House", rfl, by decide, rfl, in_X5, Or.inr ⟨_, q603⟩, Or.inl rfl⟩⟩
theorem fd_X1_332 : amFd RX1 332 4 2 (2, 147, 2) (am_kl 4) := ⟨by decide, by decide, fun c hc => by
  obtain rfl : c = 4 := List.mem_singleton.mp hc
  exact ⟨RX6, TX6, 7, "CityBrigade$Blaze", rfl, by decide, rfl, in_X6, Or.inr ⟨_, q568⟩, Or.inl rfl⟩⟩
theorem fd_X1_335 : amFd RX1 335 4 6 (2, 151, 6) (am_kl 4) := ⟨by decide, by decide, fun c hc => by
  obtain rfl : c = 4 := List.mem_singleton.mp hc
  exact ⟨RX6, TX6, 7, "CityBrigade$Blaze", rfl, by decide, rfl, in_X6, Or.inr ⟨_, q578⟩, Or.inl rfl⟩⟩
theorem fd_X1_34 : amFd RX1 34 0 7 (5, 25, 1) (am_kl 0) := ⟨by decide, by decide, fun c hc => by
  obtain rfl : c = 0 := List.mem_singleton.mp hc
  exact ⟨RX1, TX1, 58, "CityBrigade", rfl, by decide, rfl, in_X1, Or.inl q295, Or.inl rfl⟩⟩
theorem fd_X1_356 : amFd RX1 356 0 10 (0, 0, 0) (am_kl 0) := ⟨by decide, by decide, fun c hc => by
  obtain rfl : c = 0 := List.mem_singleton.mp hc
  exact ⟨RX1, TX1, 58, "CityBrigade", rfl, by decide, rfl, in_X1, Or.inl q298, Or.inl rfl⟩⟩
theorem fd_X1_359 : amFd RX1 359 0 11 (0, 0, 0) (am_kl 0) := ⟨by decide, by decide, fun c hc => by
  obtain rfl : c = 0 := List.mem_singleton.mp hc
  exact ⟨RX1, TX1, 58, "CityBrigade", rfl, by decide, rfl, in_X1, Or.inl q299, Or.inl rfl⟩⟩
theorem fd_X1_365 : amFd RX1 365 0 13 (0, 0, 0) (am_kl 0) := ⟨by decide, by decide, fun c hc => by
  obtain rfl : c = 0 := List.mem_singleton.mp hc
  exact ⟨RX1, TX1, 58, "CityBrigade", rfl, by decide, rfl, in_X1, Or.inl q301, Or.inl rfl⟩⟩
theorem fd_X1_37 : amFd RX1 37 0 8 (5, 26, 1) (am_kl 0) := ⟨by decide, by decide, fun c hc => by
  obtain rfl : c = 0 := List.mem_singleton.mp hc
  exact ⟨RX1, TX1, 58, "CityBrigade", rfl, by decide, rfl, in_X1, Or.inl q296, Or.inl rfl⟩⟩
theorem fd_X1_389 : amFd RX1 389 6 5 (0, 0, 0) (am_kl 6) := ⟨by decide, by decide, fun c hc => by
  rcases am_mem4 hc with rfl | rfl | rfl | rfl
  · exact ⟨RX9, TX9, 18, "CityBrigade$Crew", rfl, by decide, rfl, in_X9, Or.inl q793, Or.inl rfl⟩
  · exact ⟨RX10, TX10, 19, "CityBrigade$Crew", rfl, by decide, rfl, in_X10, Or.inl q793, Or.inl rfl⟩
  · exact ⟨RX11, TX11, 17, "CityBrigade$Crew", rfl, by decide, rfl, in_X11, Or.inl q793, Or.inl rfl⟩
  · exact ⟨RX12, TX12, 16, "CityBrigade$Crew", rfl, by decide, rfl, in_X12, Or.inl q793, Or.inl rfl⟩⟩
theorem fd_X1_395 : amFd RX1 395 6 6 (0, 0, 0) (am_kl 6) := ⟨by decide, by decide, fun c hc => by
  rcases am_mem4 hc with rfl | rfl | rfl | rfl
  · exact ⟨RX9, TX9, 18, "CityBrigade$Crew", rfl, by decide, rfl, in_X9, Or.inl q795, Or.inl rfl⟩
  · exact ⟨RX10, TX10, 19, "CityBrigade$Crew", rfl, by decide, rfl, in_X10, Or.inl q795, Or.inl rfl⟩
  · exact ⟨RX11, TX11, 17, "CityBrigade$Crew", rfl, by decide, rfl, in_X11, Or.inl q795, Or.inl rfl⟩
  · exact ⟨RX12, TX12, 16, "CityBrigade$Crew", rfl, by decide, rfl, in_X12, Or.inl q795, Or.inl rfl⟩⟩
theorem fd_X1_398 : amFd RX1 398 6 7 (0, 0, 0) (am_kl 6) := ⟨by decide, by decide, fun c hc => by
  rcases am_mem4 hc with rfl | rfl | rfl | rfl
  · exact ⟨RX9, TX9, 18, "CityBrigade$Crew", rfl, by decide, rfl, in_X9, Or.inl q797, Or.inl rfl⟩
  · exact ⟨RX10, TX10, 19, "CityBrigade$Crew", rfl, by decide, rfl, in_X10, Or.inl q797, Or.inl rfl⟩
  · exact ⟨RX11, TX11, 17, "CityBrigade$Crew", rfl, by decide, rfl, in_X11, Or.inl q797, Or.inl rfl⟩
  · exact ⟨RX12, TX12, 16, "CityBrigade$Crew", rfl, by decide, rfl, in_X12, Or.inl q797, Or.inl rfl⟩⟩
theorem fd_X1_401 : amFd RX1 401 6 15 (1, 3, 0) (am_kl 6) := ⟨by decide, by decide, fun c hc => by
  rcases am_mem4 hc with rfl | rfl | rfl | rfl
  · exact ⟨RX9, TX9, 18, "CityBrigade$Crew", rfl, by decide, rfl, in_X9, Or.inl q809, Or.inl rfl⟩
  · exact ⟨RX10, TX10, 19, "CityBrigade$Crew", rfl, by decide, rfl, in_X10, Or.inl q809, Or.inl rfl⟩
  · exact ⟨RX11, TX11, 17, "CityBrigade$Crew", rfl, by decide, rfl, in_X11, Or.inl q809, Or.inl rfl⟩
  · exact ⟨RX12, TX12, 16, "CityBrigade$Crew", rfl, by decide, rfl, in_X12, Or.inl q809, Or.inl rfl⟩⟩
theorem fd_X1_405 : amFd RX1 405 6 9 (0, 0, 0) (am_kl 6) := ⟨by decide, by decide, fun c hc => by
  rcases am_mem4 hc with rfl | rfl | rfl | rfl
  · exact ⟨RX9, TX9, 18, "CityBrigade$Crew", rfl, by decide, rfl, in_X9, Or.inl q801, Or.inl rfl⟩
  · exact ⟨RX10, TX10, 19, "CityBrigade$Crew", rfl, by decide, rfl, in_X10, Or.inl q801, Or.inl rfl⟩
  · exact ⟨RX11, TX11, 17, "CityBrigade$Crew", rfl, by decide, rfl, in_X11, Or.inl q801, Or.inl rfl⟩
  · exact ⟨RX12, TX12, 16, "CityBrigade$Crew", rfl, by decide, rfl, in_X12, Or.inl q801, Or.inl rfl⟩⟩
theorem fd_X1_408 : amFd RX1 408 6 1 (0, 0, 0) (am_kl 6) := ⟨by decide, by decide, fun c hc => by
  rcases am_mem4 hc with rfl | rfl | rfl | rfl
  · exact ⟨RX9, TX9, 18, "CityBrigade$Crew", rfl, by decide, rfl, in_X9, Or.inl q787, Or.inl rfl⟩
  · exact ⟨RX10, TX10, 19, "CityBrigade$Crew", rfl, by decide, rfl, in_X10, Or.inl q787, Or.inl rfl⟩
  · exact ⟨RX11, TX11, 17, "CityBrigade$Crew", rfl, by decide, rfl, in_X11, Or.inl q787, Or.inl rfl⟩
  · exact ⟨RX12, TX12, 16, "CityBrigade$Crew", rfl, by decide, rfl, in_X12, Or.inl q787, Or.inl rfl⟩⟩
theorem fd_X1_415 : amFd RX1 415 0 0 (0, 0, 0) (am_kl 0) := ⟨by decide, by decide, fun c hc => by
  obtain rfl : c = 0 := List.mem_singleton.mp hc
  exact ⟨RX1, TX1, 58, "CityBrigade", rfl, by decide, rfl, in_X1, Or.inl q288, Or.inl rfl⟩⟩
theorem fd_X1_42 : amFd RX1 42 0 9 (5, 27, 1) (am_kl 0) := ⟨by decide, by decide, fun c hc => by
  obtain rfl : c = 0 := List.mem_singleton.mp hc
  exact ⟨RX1, TX1, 58, "CityBrigade", rfl, by decide, rfl, in_X1, Or.inl q297, Or.inl rfl⟩⟩
theorem fd_X1_428 : amFd RX1 428 6 8 (0, 0, 0) (am_kl 6) := ⟨by decide, by decide, fun c hc => by
  rcases am_mem4 hc with rfl | rfl | rfl | rfl
  · exact ⟨RX9, TX9, 18, "CityBrigade$Crew", rfl, by decide, rfl, in_X9, Or.inl q799, Or.inl rfl⟩
  · exact ⟨RX10, TX10, 19, "CityBrigade$Crew", rfl, by decide, rfl, in_X10, Or.inl q799, Or.inl rfl⟩
  · exact ⟨RX11, TX11, 17, "CityBrigade$Crew", rfl, by decide, rfl, in_X11, Or.inl q799, Or.inl rfl⟩
  · exact ⟨RX12, TX12, 16, "CityBrigade$Crew", rfl, by decide, rfl, in_X12, Or.inl q799, Or.inl rfl⟩⟩
theorem fd_X1_437 : amFd RX1 437 6 11 (0, 0, 0) (am_kl 6) := ⟨by decide, by decide, fun c hc => by
  rcases am_mem4 hc with rfl | rfl | rfl | rfl
  · exact ⟨RX9, TX9, 18, "CityBrigade$Crew", rfl, by decide, rfl, in_X9, Or.inl q804, Or.inl rfl⟩
  · exact ⟨RX10, TX10, 19, "CityBrigade$Crew", rfl, by decide, rfl, in_X10, Or.inl q804, Or.inl rfl⟩
  · exact ⟨RX11, TX11, 17, "CityBrigade$Crew", rfl, by decide, rfl, in_X11, Or.inl q804, Or.inl rfl⟩
  · exact ⟨RX12, TX12, 16, "CityBrigade$Crew", rfl, by decide, rfl, in_X12, Or.inl q804, Or.inl rfl⟩⟩
theorem fd_X1_440 : amFd RX1 440 5 0 (0, 0, 0) (am_kl 5) := ⟨by decide, by decide, fun c hc => by
  obtain rfl : c = 5 := List.mem_singleton.mp hc
  exact ⟨RX7, TX7, 2, "CityBrigade$Head", rfl, by decide, rfl, in_X7, Or.inr ⟨_, q757⟩, Or.inl rfl⟩⟩
theorem fd_X1_458 : amFd RX1 458 0 17 (0, 0, 0) (am_kl 0) := ⟨by decide, by decide, fun c hc => by
  obtain rfl : c = 0 := List.mem_singleton.mp hc
  exact ⟨RX1, TX1, 58, "CityBrigade", rfl, by decide, rfl, in_X1, Or.inl q305, Or.inl rfl⟩⟩
theorem fd_X1_461 : amFd RX1 461 0 18 (0, 0, 0) (am_kl 0) := ⟨by decide, by decide, fun c hc => by
  obtain rfl : c = 0 := List.mem_singleton.mp hc
  exact ⟨RX1, TX1, 58, "CityBrigade", rfl, by decide, rfl, in_X1, Or.inl q306, Or.inl rfl⟩⟩
theorem fd_X1_48 : amFd RX1 48 0 12 (5, 28, 1) (am_kl 0) := ⟨by decide, by decide, fun c hc => by
  obtain rfl : c = 0 := List.mem_singleton.mp hc
  exact ⟨RX1, TX1, 58, "CityBrigade", rfl, by decide, rfl, in_X1, Or.inl q300, Or.inl rfl⟩⟩
theorem fd_X1_480 : amFd RX1 480 0 19 (0, 0, 0) (am_kl 0) := ⟨by decide, by decide, fun c hc => by
  obtain rfl : c = 0 := List.mem_singleton.mp hc
  exact ⟨RX1, TX1, 58, "CityBrigade", rfl, by decide, rfl, in_X1, Or.inl q307, Or.inl rfl⟩⟩
theorem fd_X1_493 : amFd RX1 493 0 20 (0, 0, 0) (am_kl 0) := ⟨by decide, by decide, fun c hc => by
  obtain rfl : c = 0 := List.mem_singleton.mp hc
  exact ⟨RX1, TX1, 58, "CityBrigade", rfl, by decide, rfl, in_X1, Or.inl q308, Or.inl rfl⟩⟩
theorem fd_X1_52 : amFd RX1 52 0 14 (5, 29, 1) (am_kl 0) := ⟨by decide, by decide, fun c hc => by
  obtain rfl : c = 0 := List.mem_singleton.mp hc
  exact ⟨RX1, TX1, 58, "CityBrigade", rfl, by decide, rfl, in_X1, Or.inl q302, Or.inl rfl⟩⟩
theorem fd_X1_552 : amFd RX1 552 8 2 (0, 0, 0) (am_kl 8) := ⟨by decide, by decide, fun c hc => by
  obtain rfl : c = 11 := List.mem_singleton.mp hc
  exact ⟨RX22, TX22, 4, "CityBrigade$Clause", rfl, by decide, rfl, in_X22, Or.inr ⟨_, q1298⟩, Or.inl rfl⟩⟩
theorem fd_X1_559 : amFd RX1 559 8 1 (1, 152, 0) (am_kl 8) := ⟨by decide, by decide, fun c hc => by
  obtain rfl : c = 11 := List.mem_singleton.mp hc
  exact ⟨RX22, TX22, 4, "CityBrigade$Clause", rfl, by decide, rfl, in_X22, Or.inr ⟨_, q1297⟩, Or.inl rfl⟩⟩
theorem fd_X1_569 : amFd RX1 569 8 3 (1, 8, 0) (am_kl 8) := ⟨by decide, by decide, fun c hc => by
  obtain rfl : c = 11 := List.mem_singleton.mp hc
  exact ⟨RX22, TX22, 4, "CityBrigade$Clause", rfl, by decide, rfl, in_X22, Or.inr ⟨_, q1299⟩, Or.inl rfl⟩⟩
theorem fd_X1_58 : amFd RX1 58 0 15 (5, 12, 1) (am_kl 0) := ⟨by decide, by decide, fun c hc => by
  obtain rfl : c = 0 := List.mem_singleton.mp hc
  exact ⟨RX1, TX1, 58, "CityBrigade", rfl, by decide, rfl, in_X1, Or.inl q303, Or.inl rfl⟩⟩
theorem fd_X1_580 : amFd RX1 580 0 23 (0, 0, 0) (am_kl 0) := ⟨by decide, by decide, fun c hc => by
  obtain rfl : c = 0 := List.mem_singleton.mp hc
  exact ⟨RX1, TX1, 58, "CityBrigade", rfl, by decide, rfl, in_X1, Or.inl q311, Or.inl rfl⟩⟩
theorem fd_X1_583 : amFd RX1 583 0 22 (1, 10, 0) (am_kl 0) := ⟨by decide, by decide, fun c hc => by
  obtain rfl : c = 0 := List.mem_singleton.mp hc
  exact ⟨RX1, TX1, 58, "CityBrigade", rfl, by decide, rfl, in_X1, Or.inl q310, Or.inl rfl⟩⟩
theorem fd_X1_587 : amFd RX1 587 0 25 (0, 0, 0) (am_kl 0) := ⟨by decide, by decide, fun c hc => by
  obtain rfl : c = 0 := List.mem_singleton.mp hc
  exact ⟨RX1, TX1, 58, "CityBrigade", rfl, by decide, rfl, in_X1, Or.inl q313, Or.inl rfl⟩⟩
theorem fd_X1_590 : amFd RX1 590 7 1 (0, 0, 0) (am_kl 7) := ⟨by decide, by decide, fun c hc => by
  obtain rfl : c = 10 := List.mem_singleton.mp hc
  exact ⟨RX13, TX13, 10, "CityBrigade$Call", rfl, by decide, rfl, in_X13, Or.inr ⟨_, q1418⟩, Or.inl rfl⟩⟩
theorem fd_X1_591 : amFd RX1 591 7 4 (0, 0, 0) (am_kl 7) := ⟨by decide, by decide, fun c hc => by
  obtain rfl : c = 10 := List.mem_singleton.mp hc
  exact ⟨RX13, TX13, 10, "CityBrigade$Call", rfl, by decide, rfl, in_X13, Or.inr ⟨_, q1424⟩, Or.inl rfl⟩⟩
theorem fd_X1_598 : amFd RX1 598 7 9 (0, 0, 0) (am_kl 7) := ⟨by decide, by decide, fun c hc => by
  obtain rfl : c = 10 := List.mem_singleton.mp hc
  exact ⟨RX13, TX13, 10, "CityBrigade$Call", rfl, by decide, rfl, in_X13, Or.inr ⟨_, q1431⟩, Or.inl rfl⟩⟩
theorem fd_X1_600 : amFd RX1 600 7 2 (0, 0, 0) (am_kl 7) := ⟨by decide, by decide, fun c hc => by
  obtain rfl : c = 10 := List.mem_singleton.mp hc
  exact ⟨RX13, TX13, 10, "CityBrigade$Call", rfl, by decide, rfl, in_X13, Or.inr ⟨_, q1420⟩, Or.inl rfl⟩⟩
theorem fd_X1_618 : amFd RX1 618 0 27 (0, 0, 0) (am_kl 0) := ⟨by decide, by decide, fun c hc => by
  obtain rfl : c = 0 := List.mem_singleton.mp hc
  exact ⟨RX1, TX1, 58, "CityBrigade", rfl, by decide, rfl, in_X1, Or.inl q315, Or.inl rfl⟩⟩
theorem fd_X1_62 : amFd RX1 62 0 16 (5, 30, 1) (am_kl 0) := ⟨by decide, by decide, fun c hc => by
  obtain rfl : c = 0 := List.mem_singleton.mp hc
  exact ⟨RX1, TX1, 58, "CityBrigade", rfl, by decide, rfl, in_X1, Or.inl q304, Or.inl rfl⟩⟩
theorem fd_X1_621 : amFd RX1 621 8 0 (1, 10, 0) (am_kl 8) := ⟨by decide, by decide, fun c hc => by
  obtain rfl : c = 11 := List.mem_singleton.mp hc
  exact ⟨RX22, TX22, 4, "CityBrigade$Clause", rfl, by decide, rfl, in_X22, Or.inr ⟨_, q1295⟩, Or.inl rfl⟩⟩
theorem fd_X1_633 : amFd RX1 633 0 28 (0, 0, 0) (am_kl 0) := ⟨by decide, by decide, fun c hc => by
  obtain rfl : c = 0 := List.mem_singleton.mp hc
  exact ⟨RX1, TX1, 58, "CityBrigade", rfl, by decide, rfl, in_X1, Or.inl q316, Or.inl rfl⟩⟩
theorem fd_X1_636 : amFd RX1 636 7 3 (0, 0, 0) (am_kl 7) := ⟨by decide, by decide, fun c hc => by
  obtain rfl : c = 10 := List.mem_singleton.mp hc
  exact ⟨RX13, TX13, 10, "CityBrigade$Call", rfl, by decide, rfl, in_X13, Or.inr ⟨_, q1422⟩, Or.inl rfl⟩⟩
theorem fd_X1_643 : amFd RX1 643 7 7 (0, 0, 0) (am_kl 7) := ⟨by decide, by decide, fun c hc => by
  obtain rfl : c = 10 := List.mem_singleton.mp hc
  exact ⟨RX13, TX13, 10, "CityBrigade$Call", rfl, by decide, rfl, in_X13, Or.inr ⟨_, q1428⟩, Or.inl rfl⟩⟩
theorem fd_X1_646 : amFd RX1 646 7 0 (0, 0, 0) (am_kl 7) := ⟨by decide, by decide, fun c hc => by
  obtain rfl : c = 10 := List.mem_singleton.mp hc
  exact ⟨RX13, TX13, 10, "CityBrigade$Call", rfl, by decide, rfl, in_X13, Or.inr ⟨_, q1416⟩, Or.inl rfl⟩⟩
theorem fd_X1_648 : amFd RX1 648 7 6 (0, 0, 0) (am_kl 7) := ⟨by decide, by decide, fun c hc => by
  obtain rfl : c = 10 := List.mem_singleton.mp hc
  exact ⟨RX13, TX13, 10, "CityBrigade$Call", rfl, by decide, rfl, in_X13, Or.inr ⟨_, q1427⟩, Or.inl rfl⟩⟩
theorem fd_X1_671 : amFd RX1 671 7 8 (0, 0, 0) (am_kl 7) := ⟨by decide, by decide, fun c hc => by
  obtain rfl : c = 10 := List.mem_singleton.mp hc
  exact ⟨RX13, TX13, 10, "CityBrigade$Call", rfl, by decide, rfl, in_X13, Or.inr ⟨_, q1430⟩, Or.inl rfl⟩⟩
theorem fd_X1_674 : amFd RX1 674 7 5 (0, 0, 0) (am_kl 7) := ⟨by decide, by decide, fun c hc => by
  obtain rfl : c = 10 := List.mem_singleton.mp hc
  exact ⟨RX13, TX13, 10, "CityBrigade$Call", rfl, by decide, rfl, in_X13, Or.inr ⟨_, q1426⟩, Or.inl rfl⟩⟩
theorem fd_X1_68 : amFd RX1 68 0 21 (5, 31, 1) (am_kl 0) := ⟨by decide, by decide, fun c hc => by
  obtain rfl : c = 0 := List.mem_singleton.mp hc
  exact ⟨RX1, TX1, 58, "CityBrigade", rfl, by decide, rfl, in_X1, Or.inl q309, Or.inl rfl⟩⟩
theorem fd_X1_681 : amFd RX1 681 6 12 (0, 0, 0) (am_kl 6) := ⟨by decide, by decide, fun c hc => by
  rcases am_mem4 hc with rfl | rfl | rfl | rfl
  · exact ⟨RX9, TX9, 18, "CityBrigade$Crew", rfl, by decide, rfl, in_X9, Or.inl q805, Or.inl rfl⟩
  · exact ⟨RX10, TX10, 19, "CityBrigade$Crew", rfl, by decide, rfl, in_X10, Or.inl q805, Or.inl rfl⟩
  · exact ⟨RX11, TX11, 17, "CityBrigade$Crew", rfl, by decide, rfl, in_X11, Or.inl q805, Or.inl rfl⟩
  · exact ⟨RX12, TX12, 16, "CityBrigade$Crew", rfl, by decide, rfl, in_X12, Or.inl q805, Or.inl rfl⟩⟩
theorem fd_X1_682 : amFd RX1 682 6 15 (1, 3, 0) [8] := ⟨by decide, by decide, fun c hc => by
  obtain rfl : c = 8 := List.mem_singleton.mp hc
  exact ⟨RX11, TX11, 17, "CityBrigade$Ladder", rfl, by decide, rfl, in_X11, Or.inl q810, Or.inr q811⟩⟩
theorem fd_X1_683 : amFd RX1 683 6 16 (0, 0, 0) [8] := ⟨by decide, by decide, fun c hc => by
  obtain rfl : c = 8 := List.mem_singleton.mp hc
  exact ⟨RX11, TX11, 17, "CityBrigade$Ladder", rfl, by decide, rfl, in_X11, Or.inr ⟨_, q884⟩, Or.inl rfl⟩⟩
theorem fd_X1_690 : amFd RX1 690 6 3 (0, 0, 0) (am_kl 6) := ⟨by decide, by decide, fun c hc => by
  rcases am_mem4 hc with rfl | rfl | rfl | rfl
  · exact ⟨RX9, TX9, 18, "CityBrigade$Crew", rfl, by decide, rfl, in_X9, Or.inl q790, Or.inl rfl⟩
  · exact ⟨RX10, TX10, 19, "CityBrigade$Crew", rfl, by decide, rfl, in_X10, Or.inl q790, Or.inl rfl⟩
  · exact ⟨RX11, TX11, 17, "CityBrigade$Crew", rfl, by decide, rfl, in_X11, Or.inl q790, Or.inl rfl⟩
  · exact ⟨RX12, TX12, 16, "CityBrigade$Crew", rfl, by decide, rfl, in_X12, Or.inl q790, Or.inl rfl⟩⟩
theorem fd_X1_693 : amFd RX1 693 6 14 (0, 0, 0) (am_kl 6) := ⟨by decide, by decide, fun c hc => by
  rcases am_mem4 hc with rfl | rfl | rfl | rfl
  · exact ⟨RX9, TX9, 18, "CityBrigade$Crew", rfl, by decide, rfl, in_X9, Or.inl q808, Or.inl rfl⟩
  · exact ⟨RX10, TX10, 19, "CityBrigade$Crew", rfl, by decide, rfl, in_X10, Or.inl q808, Or.inl rfl⟩
  · exact ⟨RX11, TX11, 17, "CityBrigade$Crew", rfl, by decide, rfl, in_X11, Or.inl q808, Or.inl rfl⟩
  · exact ⟨RX12, TX12, 16, "CityBrigade$Crew", rfl, by decide, rfl, in_X12, Or.inl q808, Or.inl rfl⟩⟩
theorem fd_X1_695 : amFd RX1 695 6 13 (0, 0, 0) (am_kl 6) := ⟨by decide, by decide, fun c hc => by
  rcases am_mem4 hc with rfl | rfl | rfl | rfl
  · exact ⟨RX9, TX9, 18, "CityBrigade$Crew", rfl, by decide, rfl, in_X9, Or.inl q807, Or.inl rfl⟩
  · exact ⟨RX10, TX10, 19, "CityBrigade$Crew", rfl, by decide, rfl, in_X10, Or.inl q807, Or.inl rfl⟩
  · exact ⟨RX11, TX11, 17, "CityBrigade$Crew", rfl, by decide, rfl, in_X11, Or.inl q807, Or.inl rfl⟩
  · exact ⟨RX12, TX12, 16, "CityBrigade$Crew", rfl, by decide, rfl, in_X12, Or.inl q807, Or.inl rfl⟩⟩
theorem fd_X1_712 : amFd RX1 712 6 0 (0, 0, 0) (am_kl 6) := ⟨by decide, by decide, fun c hc => by
  rcases am_mem4 hc with rfl | rfl | rfl | rfl
  · exact ⟨RX9, TX9, 18, "CityBrigade$Crew", rfl, by decide, rfl, in_X9, Or.inl q785, Or.inl rfl⟩
  · exact ⟨RX10, TX10, 19, "CityBrigade$Crew", rfl, by decide, rfl, in_X10, Or.inl q785, Or.inl rfl⟩
  · exact ⟨RX11, TX11, 17, "CityBrigade$Crew", rfl, by decide, rfl, in_X11, Or.inl q785, Or.inl rfl⟩
  · exact ⟨RX12, TX12, 16, "CityBrigade$Crew", rfl, by decide, rfl, in_X12, Or.inl q785, Or.inl rfl⟩⟩
theorem fd_X1_713 : amFd RX1 713 5 1 (0, 0, 0) (am_kl 5) := ⟨by decide, by decide, fun c hc => by
  obtain rfl : c = 5 := List.mem_singleton.mp hc
  exact ⟨RX7, TX7, 2, "CityBrigade$Head", rfl, by decide, rfl, in_X7, Or.inr ⟨_, q759⟩, Or.inl rfl⟩⟩
theorem fd_X1_74 : amFd RX1 74 0 24 (5, 32, 1) (am_kl 0) := ⟨by decide, by decide, fun c hc => by
  obtain rfl : c = 0 := List.mem_singleton.mp hc
  exact ⟨RX1, TX1, 58, "CityBrigade", rfl, by decide, rfl, in_X1, Or.inl q312, Or.inl rfl⟩⟩
theorem fd_X1_746 : amFd RX1 746 0 37 (0, 0, 0) (am_kl 0) := ⟨by decide, by decide, fun c hc => by
  obtain rfl : c = 0 := List.mem_singleton.mp hc
  exact ⟨RX1, TX1, 58, "CityBrigade", rfl, by decide, rfl, in_X1, Or.inl q325, Or.inl rfl⟩⟩
theorem fd_X1_755 : amFd RX1 755 0 38 (0, 0, 0) (am_kl 0) := ⟨by decide, by decide, fun c hc => by
  obtain rfl : c = 0 := List.mem_singleton.mp hc
  exact ⟨RX1, TX1, 58, "CityBrigade", rfl, by decide, rfl, in_X1, Or.inl q326, Or.inl rfl⟩⟩
theorem fd_X1_764 : amFd RX1 764 3 1 (0, 0, 0) (am_kl 3) := ⟨by decide, by decide, fun c hc => by
  obtain rfl : c = 3 := List.mem_singleton.mp hc
  exact ⟨RX5, TX5, 16, "CityBrigade$House", rfl, by decide, rfl, in_X5, Or.inr ⟨_, q597⟩, Or.inl rfl⟩⟩
theorem fd_X1_774 : amFd RX1 774 0 39 (0, 0, 0) (am_kl 0) := ⟨by decide, by decide, fun c hc => by
  obtain rfl : c = 0 := List.mem_singleton.mp hc
  exact ⟨RX1, TX1, 58, "CityBrigade", rfl, by decide, rfl, in_X1, Or.inl q327, Or.inl rfl⟩⟩
theorem fd_X1_78 : amFd RX1 78 0 26 (5, 33, 1) (am_kl 0) := ⟨by decide, by decide, fun c hc => by
  obtain rfl : c = 0 := List.mem_singleton.mp hc
  exact ⟨RX1, TX1, 58, "CityBrigade", rfl, by decide, rfl, in_X1, Or.inl q314, Or.inl rfl⟩⟩
theorem fd_X1_781 : amFd RX1 781 0 45 (0, 0, 0) (am_kl 0) := ⟨by decide, by decide, fun c hc => by
  obtain rfl : c = 0 := List.mem_singleton.mp hc
  exact ⟨RX1, TX1, 58, "CityBrigade", rfl, by decide, rfl, in_X1, Or.inl q333, Or.inl rfl⟩⟩
theorem fd_X1_784 : amFd RX1 784 0 48 (0, 0, 0) (am_kl 0) := ⟨by decide, by decide, fun c hc => by
  obtain rfl : c = 0 := List.mem_singleton.mp hc
  exact ⟨RX1, TX1, 58, "CityBrigade", rfl, by decide, rfl, in_X1, Or.inl q336, Or.inl rfl⟩⟩
theorem fd_X1_787 : amFd RX1 787 0 49 (0, 0, 0) (am_kl 0) := ⟨by decide, by decide, fun c hc => by
  obtain rfl : c = 0 := List.mem_singleton.mp hc
  exact ⟨RX1, TX1, 58, "CityBrigade", rfl, by decide, rfl, in_X1, Or.inl q337, Or.inl rfl⟩⟩
theorem fd_X1_790 : amFd RX1 790 0 46 (0, 0, 0) (am_kl 0) := ⟨by decide, by decide, fun c hc => by
  obtain rfl : c = 0 := List.mem_singleton.mp hc
  exact ⟨RX1, TX1, 58, "CityBrigade", rfl, by decide, rfl, in_X1, Or.inl q334, Or.inl rfl⟩⟩
theorem fd_X1_793 : amFd RX1 793 0 47 (0, 0, 0) (am_kl 0) := ⟨by decide, by decide, fun c hc => by
  obtain rfl : c = 0 := List.mem_singleton.mp hc
  exact ⟨RX1, TX1, 58, "CityBrigade", rfl, by decide, rfl, in_X1, Or.inl q335, Or.inl rfl⟩⟩
theorem fd_X1_81 : amFd RX1 81 0 29 (5, 34, 1) (am_kl 0) := ⟨by decide, by decide, fun c hc => by
  obtain rfl : c = 0 := List.mem_singleton.mp hc
  exact ⟨RX1, TX1, 58, "CityBrigade", rfl, by decide, rfl, in_X1, Or.inl q317, Or.inl rfl⟩⟩
theorem fd_X1_814 : amFd RX1 814 0 54 (0, 0, 0) (am_kl 0) := ⟨by decide, by decide, fun c hc => by
  obtain rfl : c = 0 := List.mem_singleton.mp hc
  exact ⟨RX1, TX1, 58, "CityBrigade", rfl, by decide, rfl, in_X1, Or.inl q342, Or.inl rfl⟩⟩
theorem fd_X1_826 : amFd RX1 826 0 57 (0, 0, 0) (am_kl 0) := ⟨by decide, by decide, fun c hc => by
  obtain rfl : c = 0 := List.mem_singleton.mp hc
  exact ⟨RX1, TX1, 58, "CityBrigade", rfl, by decide, rfl, in_X1, Or.inl q345, Or.inl rfl⟩⟩
theorem fd_X1_84 : amFd RX1 84 0 30 (5, 35, 1) (am_kl 0) := ⟨by decide, by decide, fun c hc => by
  obtain rfl : c = 0 := List.mem_singleton.mp hc
  exact ⟨RX1, TX1, 58, "CityBrigade", rfl, by decide, rfl, in_X1, Or.inl q318, Or.inl rfl⟩⟩
theorem fd_X1_87 : amFd RX1 87 0 31 (5, 36, 1) (am_kl 0) := ⟨by decide, by decide, fun c hc => by
  obtain rfl : c = 0 := List.mem_singleton.mp hc
  exact ⟨RX1, TX1, 58, "CityBrigade", rfl, by decide, rfl, in_X1, Or.inl q319, Or.inl rfl⟩⟩
theorem fd_X1_90 : amFd RX1 90 0 32 (5, 37, 1) (am_kl 0) := ⟨by decide, by decide, fun c hc => by
  obtain rfl : c = 0 := List.mem_singleton.mp hc
  exact ⟨RX1, TX1, 58, "CityBrigade", rfl, by decide, rfl, in_X1, Or.inl q320, Or.inl rfl⟩⟩
theorem fd_X1_93 : amFd RX1 93 0 33 (5, 38, 1) (am_kl 0) := ⟨by decide, by decide, fun c hc => by
  obtain rfl : c = 0 := List.mem_singleton.mp hc
  exact ⟨RX1, TX1, 58, "CityBrigade", rfl, by decide, rfl, in_X1, Or.inl q321, Or.inl rfl⟩⟩
theorem fd_X1_96 : amFd RX1 96 0 34 (5, 39, 1) (am_kl 0) := ⟨by decide, by decide, fun c hc => by
  obtain rfl : c = 0 := List.mem_singleton.mp hc
  exact ⟨RX1, TX1, 58, "CityBrigade", rfl, by decide, rfl, in_X1, Or.inl q322, Or.inl rfl⟩⟩
theorem fd_X1_99 : amFd RX1 99 0 35 (5, 40, 1) (am_kl 0) := ⟨by decide, by decide, fun c hc => by
  obtain rfl : c = 0 := List.mem_singleton.mp hc
  exact ⟨RX1, TX1, 58, "CityBrigade", rfl, by decide, rfl, in_X1, Or.inl q323, Or.inl rfl⟩⟩
theorem fd_X20_13 : amFd RX20 13 10 1 (1, 9, 0) [15] := ⟨by decide, by decide, fun c hc => by
  obtain rfl : c = 15 := List.mem_singleton.mp hc
  exact ⟨RX20, TX20, 3, "CityBrigade$Compare", rfl, by decide, rfl, in_X20, Or.inl q1256, Or.inl rfl⟩⟩
theorem fd_X20_17 : amFd RX20 17 10 2 (1, 9, 0) [15] := ⟨by decide, by decide, fun c hc => by
  obtain rfl : c = 15 := List.mem_singleton.mp hc
  exact ⟨RX20, TX20, 3, "CityBrigade$Compare", rfl, by decide, rfl, in_X20, Or.inl q1257, Or.inl rfl⟩⟩
theorem fd_X20_7 : amFd RX20 7 10 0 (0, 0, 0) [15] := ⟨by decide, by decide, fun c hc => by
  obtain rfl : c = 15 := List.mem_singleton.mp hc
  exact ⟨RX20, TX20, 3, "CityBrigade$Compare", rfl, by decide, rfl, in_X20, Or.inl q1255, Or.inl rfl⟩⟩
theorem fd_X21_13 : amFd RX21 13 10 1 (1, 10, 0) [17] := ⟨by decide, by decide, fun c hc => by
  obtain rfl : c = 17 := List.mem_singleton.mp hc
  exact ⟨RX21, TX21, 3, "CityBrigade$Both", rfl, by decide, rfl, in_X21, Or.inl q1272, Or.inl rfl⟩⟩
theorem fd_X21_17 : amFd RX21 17 10 2 (1, 10, 0) [17] := ⟨by decide, by decide, fun c hc => by
  obtain rfl : c = 17 := List.mem_singleton.mp hc
  exact ⟨RX21, TX21, 3, "CityBrigade$Both", rfl, by decide, rfl, in_X21, Or.inl q1273, Or.inl rfl⟩⟩
theorem fd_X21_7 : amFd RX21 7 10 0 (0, 0, 0) [17] := ⟨by decide, by decide, fun c hc => by
  obtain rfl : c = 17 := List.mem_singleton.mp hc
  exact ⟨RX21, TX21, 3, "CityBrigade$Both", rfl, by decide, rfl, in_X21, Or.inl q1271, Or.inl rfl⟩⟩
theorem fd_X22_15 : amFd RX22 15 8 0 (1, 10, 0) (am_kl 8) := ⟨by decide, by decide, fun c hc => by
  obtain rfl : c = 11 := List.mem_singleton.mp hc
  exact ⟨RX22, TX22, 4, "CityBrigade$Clause", rfl, by decide, rfl, in_X22, Or.inl q1294, Or.inl rfl⟩⟩
theorem fd_X22_9 : amFd RX22 9 8 1 (1, 152, 0) (am_kl 8) := ⟨by decide, by decide, fun c hc => by
  obtain rfl : c = 11 := List.mem_singleton.mp hc
  exact ⟨RX22, TX22, 4, "CityBrigade$Clause", rfl, by decide, rfl, in_X22, Or.inl q1296, Or.inl rfl⟩⟩
theorem fd_X24_9 : amFd RX24 9 11 0 (1, 153, 0) [18] := ⟨by decide, by decide, fun c hc => by
  obtain rfl : c = 18 := List.mem_singleton.mp hc
  exact ⟨RX24, TX24, 1, "CityBrigade$Bytes", rfl, by decide, rfl, in_X24, Or.inl q1726, Or.inl rfl⟩⟩
theorem fd_X25_9 : amFd RX25 9 11 0 (1, 154, 0) [19] := ⟨by decide, by decide, fun c hc => by
  obtain rfl : c = 19 := List.mem_singleton.mp hc
  exact ⟨RX25, TX25, 1, "CityBrigade$Shorts", rfl, by decide, rfl, in_X25, Or.inl q1736, Or.inl rfl⟩⟩
theorem fd_X26_9 : amFd RX26 9 11 0 (1, 155, 0) [20] := ⟨by decide, by decide, fun c hc => by
  obtain rfl : c = 20 := List.mem_singleton.mp hc
  exact ⟨RX26, TX26, 1, "CityBrigade$Ints", rfl, by decide, rfl, in_X26, Or.inl q1747, Or.inl rfl⟩⟩
theorem fd_X27_9 : amFd RX27 9 11 0 (1, 156, 0) [21] := ⟨by decide, by decide, fun c hc => by
  obtain rfl : c = 21 := List.mem_singleton.mp hc
  exact ⟨RX27, TX27, 1, "CityBrigade$Floats", rfl, by decide, rfl, in_X27, Or.inl q1757, Or.inl rfl⟩⟩
theorem fd_X3_101 : amFd RX3 101 1 34 (5, 85, 1) (am_kl 1) := ⟨by decide, by decide, fun c hc => by
  obtain rfl : c = 1 := List.mem_singleton.mp hc
  exact ⟨RX3, TX3, 121, "CityBrigadeModel", rfl, by decide, rfl, in_X3, Or.inl q1975, Or.inl rfl⟩⟩
theorem fd_X3_104 : amFd RX3 104 1 35 (5, 86, 1) (am_kl 1) := ⟨by decide, by decide, fun c hc => by
  obtain rfl : c = 1 := List.mem_singleton.mp hc
  exact ⟨RX3, TX3, 121, "CityBrigadeModel", rfl, by decide, rfl, in_X3, Or.inl q1976, Or.inl rfl⟩⟩
theorem fd_X3_107 : amFd RX3 107 1 36 (5, 87, 1) (am_kl 1) := ⟨by decide, by decide, fun c hc => by
  obtain rfl : c = 1 := List.mem_singleton.mp hc
  exact ⟨RX3, TX3, 121, "CityBrigadeModel", rfl, by decide, rfl, in_X3, Or.inl q1977, Or.inl rfl⟩⟩
theorem fd_X3_110 : amFd RX3 110 1 37 (5, 88, 1) (am_kl 1) := ⟨by decide, by decide, fun c hc => by
  obtain rfl : c = 1 := List.mem_singleton.mp hc
  exact ⟨RX3, TX3, 121, "CityBrigadeModel", rfl, by decide, rfl, in_X3, Or.inl q1978, Or.inl rfl⟩⟩
theorem fd_X3_113 : amFd RX3 113 1 38 (5, 89, 1) (am_kl 1) := ⟨by decide, by decide, fun c hc => by
  obtain rfl : c = 1 := List.mem_singleton.mp hc
  exact ⟨RX3, TX3, 121, "CityBrigadeModel", rfl, by decide, rfl, in_X3, Or.inl q1979, Or.inl rfl⟩⟩
theorem fd_X3_116 : amFd RX3 116 1 39 (5, 90, 1) (am_kl 1) := ⟨by decide, by decide, fun c hc => by
  obtain rfl : c = 1 := List.mem_singleton.mp hc
  exact ⟨RX3, TX3, 121, "CityBrigadeModel", rfl, by decide, rfl, in_X3, Or.inl q1980, Or.inl rfl⟩⟩
theorem fd_X3_119 : amFd RX3 119 1 40 (5, 91, 1) (am_kl 1) := ⟨by decide, by decide, fun c hc => by
  obtain rfl : c = 1 := List.mem_singleton.mp hc
  exact ⟨RX3, TX3, 121, "CityBrigadeModel", rfl, by decide, rfl, in_X3, Or.inl q1981, Or.inl rfl⟩⟩
theorem fd_X3_122 : amFd RX3 122 1 41 (5, 92, 1) (am_kl 1) := ⟨by decide, by decide, fun c hc => by
  obtain rfl : c = 1 := List.mem_singleton.mp hc
  exact ⟨RX3, TX3, 121, "CityBrigadeModel", rfl, by decide, rfl, in_X3, Or.inl q1982, Or.inl rfl⟩⟩
theorem fd_X3_125 : amFd RX3 125 1 42 (5, 93, 1) (am_kl 1) := ⟨by decide, by decide, fun c hc => by
  obtain rfl : c = 1 := List.mem_singleton.mp hc
  exact ⟨RX3, TX3, 121, "CityBrigadeModel", rfl, by decide, rfl, in_X3, Or.inl q1983, Or.inl rfl⟩⟩
theorem fd_X3_128 : amFd RX3 128 1 43 (5, 94, 1) (am_kl 1) := ⟨by decide, by decide, fun c hc => by
  obtain rfl : c = 1 := List.mem_singleton.mp hc
  exact ⟨RX3, TX3, 121, "CityBrigadeModel", rfl, by decide, rfl, in_X3, Or.inl q1984, Or.inl rfl⟩⟩
theorem fd_X3_13 : amFd RX3 13 1 3 (5, 56, 1) (am_kl 1) := ⟨by decide, by decide, fun c hc => by
  obtain rfl : c = 1 := List.mem_singleton.mp hc
  exact ⟨RX3, TX3, 121, "CityBrigadeModel", rfl, by decide, rfl, in_X3, Or.inl q1944, Or.inl rfl⟩⟩
theorem fd_X3_131 : amFd RX3 131 1 44 (5, 95, 1) (am_kl 1) := ⟨by decide, by decide, fun c hc => by
  obtain rfl : c = 1 := List.mem_singleton.mp hc
  exact ⟨RX3, TX3, 121, "CityBrigadeModel", rfl, by decide, rfl, in_X3, Or.inl q1985, Or.inl rfl⟩⟩
theorem fd_X3_134 : amFd RX3 134 1 45 (5, 96, 1) (am_kl 1) := ⟨by decide, by decide, fun c hc => by
  obtain rfl : c = 1 := List.mem_singleton.mp hc
  exact ⟨RX3, TX3, 121, "CityBrigadeModel", rfl, by decide, rfl, in_X3, Or.inl q1986, Or.inl rfl⟩⟩
theorem fd_X3_137 : amFd RX3 137 1 46 (5, 97, 1) (am_kl 1) := ⟨by decide, by decide, fun c hc => by
  obtain rfl : c = 1 := List.mem_singleton.mp hc
  exact ⟨RX3, TX3, 121, "CityBrigadeModel", rfl, by decide, rfl, in_X3, Or.inl q1987, Or.inl rfl⟩⟩
theorem fd_X3_140 : amFd RX3 140 1 47 (5, 98, 1) (am_kl 1) := ⟨by decide, by decide, fun c hc => by
  obtain rfl : c = 1 := List.mem_singleton.mp hc
  exact ⟨RX3, TX3, 121, "CityBrigadeModel", rfl, by decide, rfl, in_X3, Or.inl q1988, Or.inl rfl⟩⟩
theorem fd_X3_143 : amFd RX3 143 1 48 (5, 99, 1) (am_kl 1) := ⟨by decide, by decide, fun c hc => by
  obtain rfl : c = 1 := List.mem_singleton.mp hc
  exact ⟨RX3, TX3, 121, "CityBrigadeModel", rfl, by decide, rfl, in_X3, Or.inl q1989, Or.inl rfl⟩⟩
theorem fd_X3_146 : amFd RX3 146 1 49 (5, 100, 1) (am_kl 1) := ⟨by decide, by decide, fun c hc => by
  obtain rfl : c = 1 := List.mem_singleton.mp hc
  exact ⟨RX3, TX3, 121, "CityBrigadeModel", rfl, by decide, rfl, in_X3, Or.inl q1990, Or.inl rfl⟩⟩
theorem fd_X3_149 : amFd RX3 149 1 50 (5, 101, 1) (am_kl 1) := ⟨by decide, by decide, fun c hc => by
  obtain rfl : c = 1 := List.mem_singleton.mp hc
  exact ⟨RX3, TX3, 121, "CityBrigadeModel", rfl, by decide, rfl, in_X3, Or.inl q1991, Or.inl rfl⟩⟩
theorem fd_X3_152 : amFd RX3 152 1 51 (5, 102, 1) (am_kl 1) := ⟨by decide, by decide, fun c hc => by
  obtain rfl : c = 1 := List.mem_singleton.mp hc
  exact ⟨RX3, TX3, 121, "CityBrigadeModel", rfl, by decide, rfl, in_X3, Or.inl q1992, Or.inl rfl⟩⟩
theorem fd_X3_155 : amFd RX3 155 1 52 (5, 103, 1) (am_kl 1) := ⟨by decide, by decide, fun c hc => by
  obtain rfl : c = 1 := List.mem_singleton.mp hc
  exact ⟨RX3, TX3, 121, "CityBrigadeModel", rfl, by decide, rfl, in_X3, Or.inl q1993, Or.inl rfl⟩⟩
theorem fd_X3_158 : amFd RX3 158 1 53 (5, 104, 1) (am_kl 1) := ⟨by decide, by decide, fun c hc => by
  obtain rfl : c = 1 := List.mem_singleton.mp hc
  exact ⟨RX3, TX3, 121, "CityBrigadeModel", rfl, by decide, rfl, in_X3, Or.inl q1994, Or.inl rfl⟩⟩
theorem fd_X3_16 : amFd RX3 16 1 4 (5, 57, 1) (am_kl 1) := ⟨by decide, by decide, fun c hc => by
  obtain rfl : c = 1 := List.mem_singleton.mp hc
  exact ⟨RX3, TX3, 121, "CityBrigadeModel", rfl, by decide, rfl, in_X3, Or.inl q1945, Or.inl rfl⟩⟩
theorem fd_X3_161 : amFd RX3 161 1 54 (5, 105, 1) (am_kl 1) := ⟨by decide, by decide, fun c hc => by
  obtain rfl : c = 1 := List.mem_singleton.mp hc
  exact ⟨RX3, TX3, 121, "CityBrigadeModel", rfl, by decide, rfl, in_X3, Or.inl q1995, Or.inl rfl⟩⟩
theorem fd_X3_164 : amFd RX3 164 1 55 (5, 106, 1) (am_kl 1) := ⟨by decide, by decide, fun c hc => by
  obtain rfl : c = 1 := List.mem_singleton.mp hc
  exact ⟨RX3, TX3, 121, "CityBrigadeModel", rfl, by decide, rfl, in_X3, Or.inl q1996, Or.inl rfl⟩⟩
theorem fd_X3_167 : amFd RX3 167 1 59 (5, 107, 1) (am_kl 1) := ⟨by decide, by decide, fun c hc => by
  obtain rfl : c = 1 := List.mem_singleton.mp hc
  exact ⟨RX3, TX3, 121, "CityBrigadeModel", rfl, by decide, rfl, in_X3, Or.inl q2000, Or.inl rfl⟩⟩
theorem fd_X3_171 : amFd RX3 171 1 60 (5, 107, 2) (am_kl 1) := ⟨by decide, by decide, fun c hc => by
  obtain rfl : c = 1 := List.mem_singleton.mp hc
  exact ⟨RX3, TX3, 121, "CityBrigadeModel", rfl, by decide, rfl, in_X3, Or.inl q2001, Or.inl rfl⟩⟩
theorem fd_X3_174 : amFd RX3 174 1 61 (5, 107, 3) (am_kl 1) := ⟨by decide, by decide, fun c hc => by
  obtain rfl : c = 1 := List.mem_singleton.mp hc
  exact ⟨RX3, TX3, 121, "CityBrigadeModel", rfl, by decide, rfl, in_X3, Or.inl q2002, Or.inl rfl⟩⟩
theorem fd_X3_177 : amFd RX3 177 1 62 (5, 107, 4) (am_kl 1) := ⟨by decide, by decide, fun c hc => by
  obtain rfl : c = 1 := List.mem_singleton.mp hc
  exact ⟨RX3, TX3, 121, "CityBrigadeModel", rfl, by decide, rfl, in_X3, Or.inl q2003, Or.inl rfl⟩⟩
theorem fd_X3_180 : amFd RX3 180 1 63 (5, 108, 1) (am_kl 1) := ⟨by decide, by decide, fun c hc => by
  obtain rfl : c = 1 := List.mem_singleton.mp hc
  exact ⟨RX3, TX3, 121, "CityBrigadeModel", rfl, by decide, rfl, in_X3, Or.inl q2004, Or.inl rfl⟩⟩
theorem fd_X3_183 : amFd RX3 183 1 64 (5, 109, 1) (am_kl 1) := ⟨by decide, by decide, fun c hc => by
  obtain rfl : c = 1 := List.mem_singleton.mp hc
  exact ⟨RX3, TX3, 121, "CityBrigadeModel", rfl, by decide, rfl, in_X3, Or.inl q2005, Or.inl rfl⟩⟩
theorem fd_X3_186 : amFd RX3 186 1 65 (5, 110, 1) (am_kl 1) := ⟨by decide, by decide, fun c hc => by
  obtain rfl : c = 1 := List.mem_singleton.mp hc
  exact ⟨RX3, TX3, 121, "CityBrigadeModel", rfl, by decide, rfl, in_X3, Or.inl q2006, Or.inl rfl⟩⟩
theorem fd_X3_189 : amFd RX3 189 1 66 (5, 111, 1) (am_kl 1) := ⟨by decide, by decide, fun c hc => by
  obtain rfl : c = 1 := List.mem_singleton.mp hc
  exact ⟨RX3, TX3, 121, "CityBrigadeModel", rfl, by decide, rfl, in_X3, Or.inl q2007, Or.inl rfl⟩⟩
theorem fd_X3_19 : amFd RX3 19 1 5 (5, 58, 1) (am_kl 1) := ⟨by decide, by decide, fun c hc => by
  obtain rfl : c = 1 := List.mem_singleton.mp hc
  exact ⟨RX3, TX3, 121, "CityBrigadeModel", rfl, by decide, rfl, in_X3, Or.inl q1946, Or.inl rfl⟩⟩
theorem fd_X3_192 : amFd RX3 192 1 67 (5, 112, 1) (am_kl 1) := ⟨by decide, by decide, fun c hc => by
  obtain rfl : c = 1 := List.mem_singleton.mp hc
  exact ⟨RX3, TX3, 121, "CityBrigadeModel", rfl, by decide, rfl, in_X3, Or.inl q2008, Or.inl rfl⟩⟩
theorem fd_X3_195 : amFd RX3 195 1 68 (5, 113, 1) (am_kl 1) := ⟨by decide, by decide, fun c hc => by
  obtain rfl : c = 1 := List.mem_singleton.mp hc
  exact ⟨RX3, TX3, 121, "CityBrigadeModel", rfl, by decide, rfl, in_X3, Or.inl q2009, Or.inl rfl⟩⟩
theorem fd_X3_198 : amFd RX3 198 1 69 (5, 114, 1) (am_kl 1) := ⟨by decide, by decide, fun c hc => by
  obtain rfl : c = 1 := List.mem_singleton.mp hc
  exact ⟨RX3, TX3, 121, "CityBrigadeModel", rfl, by decide, rfl, in_X3, Or.inl q2010, Or.inl rfl⟩⟩
theorem fd_X3_201 : amFd RX3 201 1 73 (0, 0, 0) (am_kl 1) := ⟨by decide, by decide, fun c hc => by
  obtain rfl : c = 1 := List.mem_singleton.mp hc
  exact ⟨RX3, TX3, 121, "CityBrigadeModel", rfl, by decide, rfl, in_X3, Or.inl q2014, Or.inl rfl⟩⟩
theorem fd_X3_205 : amFd RX3 205 1 76 (1, 107, 0) (am_kl 1) := ⟨by decide, by decide, fun c hc => by
  obtain rfl : c = 1 := List.mem_singleton.mp hc
  exact ⟨RX3, TX3, 121, "CityBrigadeModel", rfl, by decide, rfl, in_X3, Or.inl q2017, Or.inl rfl⟩⟩
theorem fd_X3_210 : amFd RX3 210 1 77 (1, 250, 0) (am_kl 1) := ⟨by decide, by decide, fun c hc => by
  obtain rfl : c = 1 := List.mem_singleton.mp hc
  exact ⟨RX3, TX3, 121, "CityBrigadeModel", rfl, by decide, rfl, in_X3, Or.inl q2018, Or.inl rfl⟩⟩
theorem fd_X3_214 : amFd RX3 214 1 83 (5, 115, 1) (am_kl 1) := ⟨by decide, by decide, fun c hc => by
  obtain rfl : c = 1 := List.mem_singleton.mp hc
  exact ⟨RX3, TX3, 121, "CityBrigadeModel", rfl, by decide, rfl, in_X3, Or.inl q2024, Or.inl rfl⟩⟩
theorem fd_X3_217 : amFd RX3 217 1 84 (5, 116, 1) (am_kl 1) := ⟨by decide, by decide, fun c hc => by
  obtain rfl : c = 1 := List.mem_singleton.mp hc
  exact ⟨RX3, TX3, 121, "CityBrigadeModel", rfl, by decide, rfl, in_X3, Or.inl q2025, Or.inl rfl⟩⟩
theorem fd_X3_22 : amFd RX3 22 1 6 (5, 59, 1) (am_kl 1) := ⟨by decide, by decide, fun c hc => by
  obtain rfl : c = 1 := List.mem_singleton.mp hc
  exact ⟨RX3, TX3, 121, "CityBrigadeModel", rfl, by decide, rfl, in_X3, Or.inl q1947, Or.inl rfl⟩⟩
theorem fd_X3_220 : amFd RX3 220 1 85 (5, 117, 1) (am_kl 1) := ⟨by decide, by decide, fun c hc => by
  obtain rfl : c = 1 := List.mem_singleton.mp hc
  exact ⟨RX3, TX3, 121, "CityBrigadeModel", rfl, by decide, rfl, in_X3, Or.inl q2026, Or.inl rfl⟩⟩
theorem fd_X3_223 : amFd RX3 223 1 86 (5, 118, 1) (am_kl 1) := ⟨by decide, by decide, fun c hc => by
  obtain rfl : c = 1 := List.mem_singleton.mp hc
  exact ⟨RX3, TX3, 121, "CityBrigadeModel", rfl, by decide, rfl, in_X3, Or.inl q2027, Or.inl rfl⟩⟩
theorem fd_X3_226 : amFd RX3 226 1 87 (5, 119, 1) (am_kl 1) := ⟨by decide, by decide, fun c hc => by
  obtain rfl : c = 1 := List.mem_singleton.mp hc
  exact ⟨RX3, TX3, 121, "CityBrigadeModel", rfl, by decide, rfl, in_X3, Or.inl q2028, Or.inl rfl⟩⟩
theorem fd_X3_229 : amFd RX3 229 1 88 (5, 120, 1) (am_kl 1) := ⟨by decide, by decide, fun c hc => by
  obtain rfl : c = 1 := List.mem_singleton.mp hc
  exact ⟨RX3, TX3, 121, "CityBrigadeModel", rfl, by decide, rfl, in_X3, Or.inl q2029, Or.inl rfl⟩⟩
theorem fd_X3_232 : amFd RX3 232 1 89 (5, 121, 1) (am_kl 1) := ⟨by decide, by decide, fun c hc => by
  obtain rfl : c = 1 := List.mem_singleton.mp hc
  exact ⟨RX3, TX3, 121, "CityBrigadeModel", rfl, by decide, rfl, in_X3, Or.inl q2030, Or.inl rfl⟩⟩
theorem fd_X3_235 : amFd RX3 235 1 90 (5, 122, 1) (am_kl 1) := ⟨by decide, by decide, fun c hc => by
  obtain rfl : c = 1 := List.mem_singleton.mp hc
  exact ⟨RX3, TX3, 121, "CityBrigadeModel", rfl, by decide, rfl, in_X3, Or.inl q2031, Or.inl rfl⟩⟩
theorem fd_X3_238 : amFd RX3 238 1 91 (5, 123, 1) (am_kl 1) := ⟨by decide, by decide, fun c hc => by
  obtain rfl : c = 1 := List.mem_singleton.mp hc
  exact ⟨RX3, TX3, 121, "CityBrigadeModel", rfl, by decide, rfl, in_X3, Or.inl q2032, Or.inl rfl⟩⟩
theorem fd_X3_241 : amFd RX3 241 1 94 (5, 124, 1) (am_kl 1) := ⟨by decide, by decide, fun c hc => by
  obtain rfl : c = 1 := List.mem_singleton.mp hc
  exact ⟨RX3, TX3, 121, "CityBrigadeModel", rfl, by decide, rfl, in_X3, Or.inl q2035, Or.inl rfl⟩⟩
theorem fd_X3_244 : amFd RX3 244 1 95 (5, 125, 1) (am_kl 1) := ⟨by decide, by decide, fun c hc => by
  obtain rfl : c = 1 := List.mem_singleton.mp hc
  exact ⟨RX3, TX3, 121, "CityBrigadeModel", rfl, by decide, rfl, in_X3, Or.inl q2036, Or.inl rfl⟩⟩
theorem fd_X3_247 : amFd RX3 247 1 96 (5, 126, 1) (am_kl 1) := ⟨by decide, by decide, fun c hc => by
  obtain rfl : c = 1 := List.mem_singleton.mp hc
  exact ⟨RX3, TX3, 121, "CityBrigadeModel", rfl, by decide, rfl, in_X3, Or.inl q2037, Or.inl rfl⟩⟩
theorem fd_X3_25 : amFd RX3 25 1 7 (5, 60, 1) (am_kl 1) := ⟨by decide, by decide, fun c hc => by
  obtain rfl : c = 1 := List.mem_singleton.mp hc
  exact ⟨RX3, TX3, 121, "CityBrigadeModel", rfl, by decide, rfl, in_X3, Or.inl q1948, Or.inl rfl⟩⟩
theorem fd_X3_250 : amFd RX3 250 1 97 (5, 127, 1) (am_kl 1) := ⟨by decide, by decide, fun c hc => by
  obtain rfl : c = 1 := List.mem_singleton.mp hc
  exact ⟨RX3, TX3, 121, "CityBrigadeModel", rfl, by decide, rfl, in_X3, Or.inl q2038, Or.inl rfl⟩⟩
theorem fd_X3_253 : amFd RX3 253 1 98 (5, 128, 1) (am_kl 1) := ⟨by decide, by decide, fun c hc => by
  obtain rfl : c = 1 := List.mem_singleton.mp hc
  exact ⟨RX3, TX3, 121, "CityBrigadeModel", rfl, by decide, rfl, in_X3, Or.inl q2039, Or.inl rfl⟩⟩
theorem fd_X3_256 : amFd RX3 256 1 100 (5, 129, 1) (am_kl 1) := ⟨by decide, by decide, fun c hc => by
  obtain rfl : c = 1 := List.mem_singleton.mp hc
  exact ⟨RX3, TX3, 121, "CityBrigadeModel", rfl, by decide, rfl, in_X3, Or.inl q2041, Or.inl rfl⟩⟩
theorem fd_X3_259 : amFd RX3 259 1 101 (5, 130, 1) (am_kl 1) := ⟨by decide, by decide, fun c hc => by
  obtain rfl : c = 1 := List.mem_singleton.mp hc
  exact ⟨RX3, TX3, 121, "CityBrigadeModel", rfl, by decide, rfl, in_X3, Or.inl q2042, Or.inl rfl⟩⟩
theorem fd_X3_262 : amFd RX3 262 1 102 (5, 131, 1) (am_kl 1) := ⟨by decide, by decide, fun c hc => by
  obtain rfl : c = 1 := List.mem_singleton.mp hc
  exact ⟨RX3, TX3, 121, "CityBrigadeModel", rfl, by decide, rfl, in_X3, Or.inl q2043, Or.inl rfl⟩⟩
theorem fd_X3_265 : amFd RX3 265 1 103 (5, 132, 1) (am_kl 1) := ⟨by decide, by decide, fun c hc => by
  obtain rfl : c = 1 := List.mem_singleton.mp hc
  exact ⟨RX3, TX3, 121, "CityBrigadeModel", rfl, by decide, rfl, in_X3, Or.inl q2044, Or.inl rfl⟩⟩
theorem fd_X3_268 : amFd RX3 268 1 111 (5, 133, 1) (am_kl 1) := ⟨by decide, by decide, fun c hc => by
  obtain rfl : c = 1 := List.mem_singleton.mp hc
  exact ⟨RX3, TX3, 121, "CityBrigadeModel", rfl, by decide, rfl, in_X3, Or.inl q2052, Or.inl rfl⟩⟩
theorem fd_X3_271 : amFd RX3 271 1 112 (5, 134, 1) (am_kl 1) := ⟨by decide, by decide, fun c hc => by
  obtain rfl : c = 1 := List.mem_singleton.mp hc
  exact ⟨RX3, TX3, 121, "CityBrigadeModel", rfl, by decide, rfl, in_X3, Or.inl q2053, Or.inl rfl⟩⟩
theorem fd_X3_275 : amFd RX3 275 1 113 (5, 135, 1) (am_kl 1) := ⟨by decide, by decide, fun c hc => by
  obtain rfl : c = 1 := List.mem_singleton.mp hc
  exact ⟨RX3, TX3, 121, "CityBrigadeModel", rfl, by decide, rfl, in_X3, Or.inl q2054, Or.inl rfl⟩⟩
theorem fd_X3_278 : amFd RX3 278 1 114 (5, 136, 1) (am_kl 1) := ⟨by decide, by decide, fun c hc => by
  obtain rfl : c = 1 := List.mem_singleton.mp hc
  exact ⟨RX3, TX3, 121, "CityBrigadeModel", rfl, by decide, rfl, in_X3, Or.inl q2055, Or.inl rfl⟩⟩
theorem fd_X3_281 : amFd RX3 281 1 115 (5, 137, 1) (am_kl 1) := ⟨by decide, by decide, fun c hc => by
  obtain rfl : c = 1 := List.mem_singleton.mp hc
  exact ⟨RX3, TX3, 121, "CityBrigadeModel", rfl, by decide, rfl, in_X3, Or.inl q2056, Or.inl rfl⟩⟩
theorem fd_X3_284 : amFd RX3 284 1 117 (5, 138, 1) (am_kl 1) := ⟨by decide, by decide, fun c hc => by
  obtain rfl : c = 1 := List.mem_singleton.mp hc
  exact ⟨RX3, TX3, 121, "CityBrigadeModel", rfl, by decide, rfl, in_X3, Or.inl q2058, Or.inl rfl⟩⟩
theorem fd_X3_287 : amFd RX3 287 1 118 (5, 139, 1) (am_kl 1) := ⟨by decide, by decide, fun c hc => by
  obtain rfl : c = 1 := List.mem_singleton.mp hc
  exact ⟨RX3, TX3, 121, "CityBrigadeModel", rfl, by decide, rfl, in_X3, Or.inl q2059, Or.inl rfl⟩⟩
theorem fd_X3_29 : amFd RX3 29 1 8 (5, 61, 1) (am_kl 1) := ⟨by decide, by decide, fun c hc => by
  obtain rfl : c = 1 := List.mem_singleton.mp hc
  exact ⟨RX3, TX3, 121, "CityBrigadeModel", rfl, by decide, rfl, in_X3, Or.inl q1949, Or.inl rfl⟩⟩
theorem fd_X3_290 : amFd RX3 290 1 119 (5, 140, 1) (am_kl 1) := ⟨by decide, by decide, fun c hc => by
  obtain rfl : c = 1 := List.mem_singleton.mp hc
  exact ⟨RX3, TX3, 121, "CityBrigadeModel", rfl, by decide, rfl, in_X3, Or.inl q2060, Or.inl rfl⟩⟩
theorem fd_X3_293 : amFd RX3 293 1 120 (5, 141, 1) (am_kl 1) := ⟨by decide, by decide, fun c hc => by
  obtain rfl : c = 1 := List.mem_singleton.mp hc
  exact ⟨RX3, TX3, 121, "CityBrigadeModel", rfl, by decide, rfl, in_X3, Or.inl q2061, Or.inl rfl⟩⟩
theorem fd_X3_297 : amFd RX3 297 1 0 (0, 0, 0) (am_kl 1) := ⟨by decide, by decide, fun c hc => by
  obtain rfl : c = 1 := List.mem_singleton.mp hc
  exact ⟨RX3, TX3, 121, "CityBrigadeModel", rfl, by decide, rfl, in_X3, Or.inl q1941, Or.inl rfl⟩⟩
theorem fd_X3_300 : amFd RX3 300 1 9 (0, 0, 0) (am_kl 1) := ⟨by decide, by decide, fun c hc => by
  obtain rfl : c = 1 := List.mem_singleton.mp hc
  exact ⟨RX3, TX3, 121, "CityBrigadeModel", rfl, by decide, rfl, in_X3, Or.inl q1950, Or.inl rfl⟩⟩
theorem fd_X3_32 : amFd RX3 32 1 10 (5, 62, 1) (am_kl 1) := ⟨by decide, by decide, fun c hc => by
  obtain rfl : c = 1 := List.mem_singleton.mp hc
  exact ⟨RX3, TX3, 121, "CityBrigadeModel", rfl, by decide, rfl, in_X3, Or.inl q1951, Or.inl rfl⟩⟩
theorem fd_X3_331 : amFd RX3 331 1 31 (0, 0, 0) (am_kl 1) := ⟨by decide, by decide, fun c hc => by
  obtain rfl : c = 1 := List.mem_singleton.mp hc
  exact ⟨RX3, TX3, 121, "CityBrigadeModel", rfl, by decide, rfl, in_X3, Or.inl q1972, Or.inl rfl⟩⟩
theorem fd_X3_35 : amFd RX3 35 1 11 (5, 63, 1) (am_kl 1) := ⟨by decide, by decide, fun c hc => by
  obtain rfl : c = 1 := List.mem_singleton.mp hc
  exact ⟨RX3, TX3, 121, "CityBrigadeModel", rfl, by decide, rfl, in_X3, Or.inl q1952, Or.inl rfl⟩⟩
theorem fd_X3_366 : amFd RX3 366 1 58 (0, 0, 0) (am_kl 1) := ⟨by decide, by decide, fun c hc => by
  obtain rfl : c = 1 := List.mem_singleton.mp hc
  exact ⟨RX3, TX3, 121, "CityBrigadeModel", rfl, by decide, rfl, in_X3, Or.inl q1999, Or.inl rfl⟩⟩
theorem fd_X3_38 : amFd RX3 38 1 12 (5, 64, 1) (am_kl 1) := ⟨by decide, by decide, fun c hc => by
  obtain rfl : c = 1 := List.mem_singleton.mp hc
  exact ⟨RX3, TX3, 121, "CityBrigadeModel", rfl, by decide, rfl, in_X3, Or.inl q1953, Or.inl rfl⟩⟩
theorem fd_X3_386 : amFd RX3 386 1 56 (0, 0, 0) (am_kl 1) := ⟨by decide, by decide, fun c hc => by
  obtain rfl : c = 1 := List.mem_singleton.mp hc
  exact ⟨RX3, TX3, 121, "CityBrigadeModel", rfl, by decide, rfl, in_X3, Or.inl q1997, Or.inl rfl⟩⟩
theorem fd_X3_389 : amFd RX3 389 1 57 (0, 0, 0) (am_kl 1) := ⟨by decide, by decide, fun c hc => by
  obtain rfl : c = 1 := List.mem_singleton.mp hc
  exact ⟨RX3, TX3, 121, "CityBrigadeModel", rfl, by decide, rfl, in_X3, Or.inl q1998, Or.inl rfl⟩⟩
theorem fd_X3_395 : amFd RX3 395 1 1 (0, 0, 0) (am_kl 1) := ⟨by decide, by decide, fun c hc => by
  obtain rfl : c = 1 := List.mem_singleton.mp hc
  exact ⟨RX3, TX3, 121, "CityBrigadeModel", rfl, by decide, rfl, in_X3, Or.inl q1942, Or.inl rfl⟩⟩
theorem fd_X3_41 : amFd RX3 41 1 13 (5, 65, 1) (am_kl 1) := ⟨by decide, by decide, fun c hc => by
  obtain rfl : c = 1 := List.mem_singleton.mp hc
  exact ⟨RX3, TX3, 121, "CityBrigadeModel", rfl, by decide, rfl, in_X3, Or.inl q1954, Or.inl rfl⟩⟩
theorem fd_X3_414 : amFd RX3 414 1 70 (0, 0, 0) (am_kl 1) := ⟨by decide, by decide, fun c hc => by
  obtain rfl : c = 1 := List.mem_singleton.mp hc
  exact ⟨RX3, TX3, 121, "CityBrigadeModel", rfl, by decide, rfl, in_X3, Or.inl q2011, Or.inl rfl⟩⟩
theorem fd_X3_423 : amFd RX3 423 1 80 (0, 0, 0) (am_kl 1) := ⟨by decide, by decide, fun c hc => by
  obtain rfl : c = 1 := List.mem_singleton.mp hc
  exact ⟨RX3, TX3, 121, "CityBrigadeModel", rfl, by decide, rfl, in_X3, Or.inl q2021, Or.inl rfl⟩⟩
theorem fd_X3_426 : amFd RX3 426 1 79 (0, 0, 0) (am_kl 1) := ⟨by decide, by decide, fun c hc => by
  obtain rfl : c = 1 := List.mem_singleton.mp hc
  exact ⟨RX3, TX3, 121, "CityBrigadeModel", rfl, by decide, rfl, in_X3, Or.inl q2020, Or.inl rfl⟩⟩
theorem fd_X3_429 : amFd RX3 429 1 78 (0, 0, 0) (am_kl 1) := ⟨by decide, by decide, fun c hc => by
  obtain rfl : c = 1 := List.mem_singleton.mp hc
  exact ⟨RX3, TX3, 121, "CityBrigadeModel", rfl, by decide, rfl, in_X3, Or.inl q2019, Or.inl rfl⟩⟩
theorem fd_X3_432 : amFd RX3 432 1 81 (0, 0, 0) (am_kl 1) := ⟨by decide, by decide, fun c hc => by
  obtain rfl : c = 1 := List.mem_singleton.mp hc
  exact ⟨RX3, TX3, 121, "CityBrigadeModel", rfl, by decide, rfl, in_X3, Or.inl q2022, Or.inl rfl⟩⟩
theorem fd_X3_435 : amFd RX3 435 1 82 (0, 0, 0) (am_kl 1) := ⟨by decide, by decide, fun c hc => by
  obtain rfl : c = 1 := List.mem_singleton.mp hc
  exact ⟨RX3, TX3, 121, "CityBrigadeModel", rfl, by decide, rfl, in_X3, Or.inl q2023, Or.inl rfl⟩⟩
theorem fd_X3_44 : amFd RX3 44 1 14 (5, 66, 1) (am_kl 1) := ⟨by decide, by decide, fun c hc => by
  obtain rfl : c = 1 := List.mem_singleton.mp hc
  exact ⟨RX3, TX3, 121, "CityBrigadeModel", rfl, by decide, rfl, in_X3, Or.inl q1955, Or.inl rfl⟩⟩
theorem fd_X3_47 : amFd RX3 47 1 15 (5, 67, 1) (am_kl 1) := ⟨by decide, by decide, fun c hc => by
  obtain rfl : c = 1 := List.mem_singleton.mp hc
  exact ⟨RX3, TX3, 121, "CityBrigadeModel", rfl, by decide, rfl, in_X3, Or.inl q1956, Or.inl rfl⟩⟩
theorem fd_X3_494 : amFd RX3 494 1 75 (0, 0, 0) (am_kl 1) := ⟨by decide, by decide, fun c hc => by
  obtain rfl : c = 1 := List.mem_singleton.mp hc
  exact ⟨RX3, TX3, 121, "CityBrigadeModel", rfl, by decide, rfl, in_X3, Or.inl q2016, Or.inl rfl⟩⟩
theorem fd_X3_497 : amFd RX3 497 1 74 (0, 0, 0) (am_kl 1) := ⟨by decide, by decide, fun c hc => by
  obtain rfl : c = 1 := List.mem_singleton.mp hc
  exact ⟨RX3, TX3, 121, "CityBrigadeModel", rfl, by decide, rfl, in_X3, Or.inl q2015, Or.inl rfl⟩⟩
theorem fd_X3_50 : amFd RX3 50 1 16 (5, 68, 1) (am_kl 1) := ⟨by decide, by decide, fun c hc => by
  obtain rfl : c = 1 := List.mem_singleton.mp hc
  exact ⟨RX3, TX3, 121, "CityBrigadeModel", rfl, by decide, rfl, in_X3, Or.inl q1957, Or.inl rfl⟩⟩
theorem fd_X3_519 : amFd RX3 519 1 71 (0, 0, 0) (am_kl 1) := ⟨by decide, by decide, fun c hc => by
  obtain rfl : c = 1 := List.mem_singleton.mp hc
  exact ⟨RX3, TX3, 121, "CityBrigadeModel", rfl, by decide, rfl, in_X3, Or.inl q2012, Or.inl rfl⟩⟩
theorem fd_X3_522 : amFd RX3 522 1 72 (0, 0, 0) (am_kl 1) := ⟨by decide, by decide, fun c hc => by
  obtain rfl : c = 1 := List.mem_singleton.mp hc
  exact ⟨RX3, TX3, 121, "CityBrigadeModel", rfl, by decide, rfl, in_X3, Or.inl q2013, Or.inl rfl⟩⟩
theorem fd_X3_525 : amFd RX3 525 1 92 (0, 0, 0) (am_kl 1) := ⟨by decide, by decide, fun c hc => by
  obtain rfl : c = 1 := List.mem_singleton.mp hc
  exact ⟨RX3, TX3, 121, "CityBrigadeModel", rfl, by decide, rfl, in_X3, Or.inl q2033, Or.inl rfl⟩⟩
theorem fd_X3_53 : amFd RX3 53 1 17 (5, 69, 1) (am_kl 1) := ⟨by decide, by decide, fun c hc => by
  obtain rfl : c = 1 := List.mem_singleton.mp hc
  exact ⟨RX3, TX3, 121, "CityBrigadeModel", rfl, by decide, rfl, in_X3, Or.inl q1958, Or.inl rfl⟩⟩
theorem fd_X3_546 : amFd RX3 546 1 93 (0, 0, 0) (am_kl 1) := ⟨by decide, by decide, fun c hc => by
  obtain rfl : c = 1 := List.mem_singleton.mp hc
  exact ⟨RX3, TX3, 121, "CityBrigadeModel", rfl, by decide, rfl, in_X3, Or.inl q2034, Or.inl rfl⟩⟩
theorem fd_X3_56 : amFd RX3 56 1 18 (5, 70, 1) (am_kl 1) := ⟨by decide, by decide, fun c hc => by
  obtain rfl : c = 1 := List.mem_singleton.mp hc
  exact ⟨RX3, TX3, 121, "CityBrigadeModel", rfl, by decide, rfl, in_X3, Or.inl q1959, Or.inl rfl⟩⟩
theorem fd_X3_59 : amFd RX3 59 1 19 (5, 71, 1) (am_kl 1) := ⟨by decide, by decide, fun c hc => by
  obtain rfl : c = 1 := List.mem_singleton.mp hc
  exact ⟨RX3, TX3, 121, "CityBrigadeModel", rfl, by decide, rfl, in_X3, Or.inl q1960, Or.inl rfl⟩⟩
theorem fd_X3_596 : amFd RX3 596 1 99 (0, 0, 0) (am_kl 1) := ⟨by decide, by decide, fun c hc => by
  obtain rfl : c = 1 := List.mem_singleton.mp hc
  exact ⟨RX3, TX3, 121, "CityBrigadeModel", rfl, by decide, rfl, in_X3, Or.inl q2040, Or.inl rfl⟩⟩
theorem fd_X3_611 : amFd RX3 611 1 104 (0, 0, 0) (am_kl 1) := ⟨by decide, by decide, fun c hc => by
  obtain rfl : c = 1 := List.mem_singleton.mp hc
  exact ⟨RX3, TX3, 121, "CityBrigadeModel", rfl, by decide, rfl, in_X3, Or.inl q2045, Or.inl rfl⟩⟩
theorem fd_X3_614 : amFd RX3 614 1 105 (0, 0, 0) (am_kl 1) := ⟨by decide, by decide, fun c hc => by
  obtain rfl : c = 1 := List.mem_singleton.mp hc
  exact ⟨RX3, TX3, 121, "CityBrigadeModel", rfl, by decide, rfl, in_X3, Or.inl q2046, Or.inl rfl⟩⟩
theorem fd_X3_617 : amFd RX3 617 1 108 (0, 0, 0) (am_kl 1) := ⟨by decide, by decide, fun c hc => by
  obtain rfl : c = 1 := List.mem_singleton.mp hc
  exact ⟨RX3, TX3, 121, "CityBrigadeModel", rfl, by decide, rfl, in_X3, Or.inl q2049, Or.inl rfl⟩⟩
theorem fd_X3_62 : amFd RX3 62 1 20 (5, 72, 1) (am_kl 1) := ⟨by decide, by decide, fun c hc => by
  obtain rfl : c = 1 := List.mem_singleton.mp hc
  exact ⟨RX3, TX3, 121, "CityBrigadeModel", rfl, by decide, rfl, in_X3, Or.inl q1961, Or.inl rfl⟩⟩
theorem fd_X3_620 : amFd RX3 620 1 106 (0, 0, 0) (am_kl 1) := ⟨by decide, by decide, fun c hc => by
  obtain rfl : c = 1 := List.mem_singleton.mp hc
  exact ⟨RX3, TX3, 121, "CityBrigadeModel", rfl, by decide, rfl, in_X3, Or.inl q2047, Or.inl rfl⟩⟩
theorem fd_X3_623 : amFd RX3 623 1 107 (0, 0, 0) (am_kl 1) := ⟨by decide, by decide, fun c hc => by
  obtain rfl : c = 1 := List.mem_singleton.mp hc
  exact ⟨RX3, TX3, 121, "CityBrigadeModel", rfl, by decide, rfl, in_X3, Or.inl q2048, Or.inl rfl⟩⟩
theorem fd_X3_639 : amFd RX3 639 1 109 (0, 0, 0) (am_kl 1) := ⟨by decide, by decide, fun c hc => by
  obtain rfl : c = 1 := List.mem_singleton.mp hc
  exact ⟨RX3, TX3, 121, "CityBrigadeModel", rfl, by decide, rfl, in_X3, Or.inl q2050, Or.inl rfl⟩⟩
theorem fd_X3_642 : amFd RX3 642 1 110 (0, 0, 0) (am_kl 1) := ⟨by decide, by decide, fun c hc => by
  obtain rfl : c = 1 := List.mem_singleton.mp hc
  exact ⟨RX3, TX3, 121, "CityBrigadeModel", rfl, by decide, rfl, in_X3, Or.inl q2051, Or.inl rfl⟩⟩
theorem fd_X3_648 : amFd RX3 648 1 116 (0, 0, 0) (am_kl 1) := ⟨by decide, by decide, fun c hc => by
  obtain rfl : c = 1 := List.mem_singleton.mp hc
  exact ⟨RX3, TX3, 121, "CityBrigadeModel", rfl, by decide, rfl, in_X3, Or.inl q2057, Or.inl rfl⟩⟩
theorem fd_X3_65 : amFd RX3 65 1 21 (5, 73, 1) (am_kl 1) := ⟨by decide, by decide, fun c hc => by
  obtain rfl : c = 1 := List.mem_singleton.mp hc
  exact ⟨RX3, TX3, 121, "CityBrigadeModel", rfl, by decide, rfl, in_X3, Or.inl q1962, Or.inl rfl⟩⟩
theorem fd_X3_68 : amFd RX3 68 1 22 (5, 74, 1) (am_kl 1) := ⟨by decide, by decide, fun c hc => by
  obtain rfl : c = 1 := List.mem_singleton.mp hc
  exact ⟨RX3, TX3, 121, "CityBrigadeModel", rfl, by decide, rfl, in_X3, Or.inl q1963, Or.inl rfl⟩⟩
theorem fd_X3_71 : amFd RX3 71 1 23 (5, 75, 1) (am_kl 1) := ⟨by decide, by decide, fun c hc => by
  obtain rfl : c = 1 := List.mem_singleton.mp hc
  exact ⟨RX3, TX3, 121, "CityBrigadeModel", rfl, by decide, rfl, in_X3, Or.inl q1964, Or.inl rfl⟩⟩
theorem fd_X3_74 : amFd RX3 74 1 24 (5, 76, 1) (am_kl 1) := ⟨by decide, by decide, fun c hc => by
  obtain rfl : c = 1 := List.mem_singleton.mp hc
  exact ⟨RX3, TX3, 121, "CityBrigadeModel", rfl, by decide, rfl, in_X3, Or.inl q1965, Or.inl rfl⟩⟩
theorem fd_X3_77 : amFd RX3 77 1 25 (5, 77, 1) (am_kl 1) := ⟨by decide, by decide, fun c hc => by
  obtain rfl : c = 1 := List.mem_singleton.mp hc
  exact ⟨RX3, TX3, 121, "CityBrigadeModel", rfl, by decide, rfl, in_X3, Or.inl q1966, Or.inl rfl⟩⟩
theorem fd_X3_80 : amFd RX3 80 1 26 (5, 78, 1) (am_kl 1) := ⟨by decide, by decide, fun c hc => by
  obtain rfl : c = 1 := List.mem_singleton.mp hc
  exact ⟨RX3, TX3, 121, "CityBrigadeModel", rfl, by decide, rfl, in_X3, Or.inl q1967, Or.inl rfl⟩⟩
theorem fd_X3_83 : amFd RX3 83 1 27 (5, 79, 1) (am_kl 1) := ⟨by decide, by decide, fun c hc => by
  obtain rfl : c = 1 := List.mem_singleton.mp hc
  exact ⟨RX3, TX3, 121, "CityBrigadeModel", rfl, by decide, rfl, in_X3, Or.inl q1968, Or.inl rfl⟩⟩
theorem fd_X3_86 : amFd RX3 86 1 28 (5, 80, 1) (am_kl 1) := ⟨by decide, by decide, fun c hc => by
  obtain rfl : c = 1 := List.mem_singleton.mp hc
  exact ⟨RX3, TX3, 121, "CityBrigadeModel", rfl, by decide, rfl, in_X3, Or.inl q1969, Or.inl rfl⟩⟩
theorem fd_X3_89 : amFd RX3 89 1 29 (5, 81, 1) (am_kl 1) := ⟨by decide, by decide, fun c hc => by
  obtain rfl : c = 1 := List.mem_singleton.mp hc
  exact ⟨RX3, TX3, 121, "CityBrigadeModel", rfl, by decide, rfl, in_X3, Or.inl q1970, Or.inl rfl⟩⟩
theorem fd_X3_9 : amFd RX3 9 1 2 (5, 55, 1) (am_kl 1) := ⟨by decide, by decide, fun c hc => by
  obtain rfl : c = 1 := List.mem_singleton.mp hc
  exact ⟨RX3, TX3, 121, "CityBrigadeModel", rfl, by decide, rfl, in_X3, Or.inl q1943, Or.inl rfl⟩⟩
theorem fd_X3_92 : amFd RX3 92 1 30 (5, 82, 1) (am_kl 1) := ⟨by decide, by decide, fun c hc => by
  obtain rfl : c = 1 := List.mem_singleton.mp hc
  exact ⟨RX3, TX3, 121, "CityBrigadeModel", rfl, by decide, rfl, in_X3, Or.inl q1971, Or.inl rfl⟩⟩
theorem fd_X3_95 : amFd RX3 95 1 32 (5, 83, 1) (am_kl 1) := ⟨by decide, by decide, fun c hc => by
  obtain rfl : c = 1 := List.mem_singleton.mp hc
  exact ⟨RX3, TX3, 121, "CityBrigadeModel", rfl, by decide, rfl, in_X3, Or.inl q1973, Or.inl rfl⟩⟩
theorem fd_X3_98 : amFd RX3 98 1 33 (5, 84, 1) (am_kl 1) := ⟨by decide, by decide, fun c hc => by
  obtain rfl : c = 1 := List.mem_singleton.mp hc
  exact ⟨RX3, TX3, 121, "CityBrigadeModel", rfl, by decide, rfl, in_X3, Or.inl q1974, Or.inl rfl⟩⟩
theorem fd_X4_15 : amFd RX4 15 2 0 (0, 0, 0) (am_kl 2) := ⟨by decide, by decide, fun c hc => by
  obtain rfl : c = 2 := List.mem_singleton.mp hc
  exact ⟨RX4, TX4, 5, "CityBrigade$Street", rfl, by decide, rfl, in_X4, Or.inl q479, Or.inl rfl⟩⟩
theorem fd_X4_19 : amFd RX4 19 2 1 (0, 0, 0) (am_kl 2) := ⟨by decide, by decide, fun c hc => by
  obtain rfl : c = 2 := List.mem_singleton.mp hc
  exact ⟨RX4, TX4, 5, "CityBrigade$Street", rfl, by decide, rfl, in_X4, Or.inl q481, Or.inl rfl⟩⟩
theorem fd_X4_22 : amFd RX4 22 2 2 (0, 0, 0) (am_kl 2) := ⟨by decide, by decide, fun c hc => by
  obtain rfl : c = 2 := List.mem_singleton.mp hc
  exact ⟨RX4, TX4, 5, "CityBrigade$Street", rfl, by decide, rfl, in_X4, Or.inl q483, Or.inl rfl⟩⟩
theorem fd_X4_9 : amFd RX4 9 2 3 (2, 142, 0) (am_kl 2) := ⟨by decide, by decide, fun c hc => by
  obtain rfl : c = 2 := List.mem_singleton.mp hc
  exact ⟨RX4, TX4, 5, "CityBrigade$Street", rfl, by decide, rfl, in_X4, Or.inl q485, Or.inl rfl⟩⟩
theorem fd_X5_15 : amFd RX5 15 3 12 (2, 143, 0) (am_kl 3) := ⟨by decide, by decide, fun c hc => by
  obtain rfl : c = 3 := List.mem_singleton.mp hc
  exact ⟨RX5, TX5, 16, "CityBrigade$House", rfl, by decide, rfl, in_X5, Or.inl q612, Or.inl rfl⟩⟩
theorem fd_X5_19 : amFd RX5 19 3 13 (2, 144, 1) (am_kl 3) := ⟨by decide, by decide, fun c hc => by
  obtain rfl : c = 3 := List.mem_singleton.mp hc
  exact ⟨RX5, TX5, 16, "CityBrigade$House", rfl, by decide, rfl, in_X5, Or.inl q614, Or.inl rfl⟩⟩
theorem fd_X5_25 : amFd RX5 25 3 14 (3, 4, 2) (am_kl 3) := ⟨by decide, by decide, fun c hc => by
  obtain rfl : c = 3 := List.mem_singleton.mp hc
  exact ⟨RX5, TX5, 16, "CityBrigade$House", rfl, by decide, rfl, in_X5, Or.inl q616, Or.inl rfl⟩⟩
theorem fd_X5_29 : amFd RX5 29 3 15 (4, 4, 3) (am_kl 3) := ⟨by decide, by decide, fun c hc => by
  obtain rfl : c = 3 := List.mem_singleton.mp hc
  exact ⟨RX5, TX5, 16, "CityBrigade$House", rfl, by decide, rfl, in_X5, Or.inl q618, Or.inl rfl⟩⟩
theorem fd_X5_32 : amFd RX5 32 3 0 (0, 0, 0) (am_kl 3) := ⟨by decide, by decide, fun c hc => by
  obtain rfl : c = 3 := List.mem_singleton.mp hc
  exact ⟨RX5, TX5, 16, "CityBrigade$House", rfl, by decide, rfl, in_X5, Or.inl q594, Or.inl rfl⟩⟩
theorem fd_X5_35 : amFd RX5 35 3 1 (0, 0, 0) (am_kl 3) := ⟨by decide, by decide, fun c hc => by
  obtain rfl : c = 3 := List.mem_singleton.mp hc
  exact ⟨RX5, TX5, 16, "CityBrigade$House", rfl, by decide, rfl, in_X5, Or.inl q596, Or.inl rfl⟩⟩
theorem fd_X5_38 : amFd RX5 38 3 2 (0, 0, 0) (am_kl 3) := ⟨by decide, by decide, fun c hc => by
  obtain rfl : c = 3 := List.mem_singleton.mp hc
  exact ⟨RX5, TX5, 16, "CityBrigade$House", rfl, by decide, rfl, in_X5, Or.inl q598, Or.inl rfl⟩⟩
theorem fd_X5_41 : amFd RX5 41 3 3 (0, 0, 0) (am_kl 3) := ⟨by decide, by decide, fun c hc => by
  obtain rfl : c = 3 := List.mem_singleton.mp hc
  exact ⟨RX5, TX5, 16, "CityBrigade$House", rfl, by decide, rfl, in_X5, Or.inl q600, Or.inl rfl⟩⟩
theorem fd_X5_44 : amFd RX5 44 3 4 (0, 0, 0) (am_kl 3) := ⟨by decide, by decide, fun c hc => by
  obtain rfl : c = 3 := List.mem_singleton.mp hc
  exact ⟨RX5, TX5, 16, "CityBrigade$House", rfl, by decide, rfl, in_X5, Or.inl q602, Or.inl rfl⟩⟩
theorem fd_X5_47 : amFd RX5 47 4 0 (2, 145, 0) (am_kl 4) := ⟨by decide, by decide, fun c hc => by
  obtain rfl : c = 4 := List.mem_singleton.mp hc
  exact ⟨RX6, TX6, 7, "CityBrigade$Blaze", rfl, by decide, rfl, in_X6, Or.inr ⟨_, q562⟩, Or.inl rfl⟩⟩
theorem fd_X5_50 : amFd RX5 50 4 1 (2, 146, 1) (am_kl 4) := ⟨by decide, by decide, fun c hc => by
  obtain rfl : c = 4 := List.mem_singleton.mp hc
  exact ⟨RX6, TX6, 7, "CityBrigade$Blaze", rfl, by decide, rfl, in_X6, Or.inr ⟨_, q565⟩, Or.inl rfl⟩⟩
theorem fd_X5_53 : amFd RX5 53 4 4 (2, 149, 4) (am_kl 4) := ⟨by decide, by decide, fun c hc => by
  obtain rfl : c = 4 := List.mem_singleton.mp hc
  exact ⟨RX6, TX6, 7, "CityBrigade$Blaze", rfl, by decide, rfl, in_X6, Or.inr ⟨_, q573⟩, Or.inl rfl⟩⟩
theorem fd_X5_69 : amFd RX5 69 4 3 (2, 148, 3) (am_kl 4) := ⟨by decide, by decide, fun c hc => by
  obtain rfl : c = 4 := List.mem_singleton.mp hc
  exact ⟨RX6, TX6, 7, "CityBrigade$Blaze", rfl, by decide, rfl, in_X6, Or.inr ⟨_, q570⟩, Or.inl rfl⟩⟩
theorem fd_X5_9 : amFd RX5 9 3 7 (0, 0, 0) (am_kl 3) := ⟨by decide, by decide, fun c hc => by
  obtain rfl : c = 3 := List.mem_singleton.mp hc
  exact ⟨RX5, TX5, 16, "CityBrigade$House", rfl, by decide, rfl, in_X5, Or.inl q606, Or.inl rfl⟩⟩
theorem fd_X6_15 : amFd RX6 15 4 1 (2, 146, 1) (am_kl 4) := ⟨by decide, by decide, fun c hc => by
  obtain rfl : c = 4 := List.mem_singleton.mp hc
  exact ⟨RX6, TX6, 7, "CityBrigade$Blaze", rfl, by decide, rfl, in_X6, Or.inl q564, Or.inl rfl⟩⟩
theorem fd_X6_18 : amFd RX6 18 4 2 (2, 147, 2) (am_kl 4) := ⟨by decide, by decide, fun c hc => by
  obtain rfl : c = 4 := List.mem_singleton.mp hc
  exact ⟨RX6, TX6, 7, "CityBrigade$Blaze", rfl, by decide, rfl, in_X6, Or.inl q567, Or.inl rfl⟩⟩
theorem fd_X6_21 : amFd RX6 21 4 3 (2, 148, 3) (am_kl 4) := ⟨by decide, by decide, fun c hc => by
  obtain rfl : c = 4 := List.mem_singleton.mp hc
  exact ⟨RX6, TX6, 7, "CityBrigade$Blaze", rfl, by decide, rfl, in_X6, Or.inl q569, Or.inl rfl⟩⟩
theorem fd_X6_24 : amFd RX6 24 4 4 (2, 149, 4) (am_kl 4) := ⟨by decide, by decide, fun c hc => by
  obtain rfl : c = 4 := List.mem_singleton.mp hc
  exact ⟨RX6, TX6, 7, "CityBrigade$Blaze", rfl, by decide, rfl, in_X6, Or.inl q572, Or.inl rfl⟩⟩
theorem fd_X6_28 : amFd RX6 28 4 5 (2, 150, 5) (am_kl 4) := ⟨by decide, by decide, fun c hc => by
  obtain rfl : c = 4 := List.mem_singleton.mp hc
  exact ⟨RX6, TX6, 7, "CityBrigade$Blaze", rfl, by decide, rfl, in_X6, Or.inl q575, Or.inl rfl⟩⟩
theorem fd_X6_31 : amFd RX6 31 4 6 (2, 151, 6) (am_kl 4) := ⟨by decide, by decide, fun c hc => by
  obtain rfl : c = 4 := List.mem_singleton.mp hc
  exact ⟨RX6, TX6, 7, "CityBrigade$Blaze", rfl, by decide, rfl, in_X6, Or.inl q577, Or.inl rfl⟩⟩
theorem fd_X6_9 : amFd RX6 9 4 0 (2, 145, 0) (am_kl 4) := ⟨by decide, by decide, fun c hc => by
  obtain rfl : c = 4 := List.mem_singleton.mp hc
  exact ⟨RX6, TX6, 7, "CityBrigade$Blaze", rfl, by decide, rfl, in_X6, Or.inl q561, Or.inl rfl⟩⟩
theorem fd_X7_13 : amFd RX7 13 5 1 (0, 0, 0) (am_kl 5) := ⟨by decide, by decide, fun c hc => by
  obtain rfl : c = 5 := List.mem_singleton.mp hc
  exact ⟨RX7, TX7, 2, "CityBrigade$Head", rfl, by decide, rfl, in_X7, Or.inl q758, Or.inl rfl⟩⟩
theorem fd_X7_7 : amFd RX7 7 5 0 (0, 0, 0) (am_kl 5) := ⟨by decide, by decide, fun c hc => by
  obtain rfl : c = 5 := List.mem_singleton.mp hc
  exact ⟨RX7, TX7, 2, "CityBrigade$Head", rfl, by decide, rfl, in_X7, Or.inl q756, Or.inl rfl⟩⟩
theorem fd_X8_15 : amFd RX8 15 6 7 (0, 0, 0) (am_kl 6) := ⟨by decide, by decide, fun c hc => by
  rcases am_mem4 hc with rfl | rfl | rfl | rfl
  · exact ⟨RX9, TX9, 18, "CityBrigade$Crew", rfl, by decide, rfl, in_X9, Or.inl q796, Or.inl rfl⟩
  · exact ⟨RX10, TX10, 19, "CityBrigade$Crew", rfl, by decide, rfl, in_X10, Or.inl q796, Or.inl rfl⟩
  · exact ⟨RX11, TX11, 17, "CityBrigade$Crew", rfl, by decide, rfl, in_X11, Or.inl q796, Or.inl rfl⟩
  · exact ⟨RX12, TX12, 16, "CityBrigade$Crew", rfl, by decide, rfl, in_X12, Or.inl q796, Or.inl rfl⟩⟩
theorem fd_X8_18 : amFd RX8 18 6 8 (0, 0, 0) (am_kl 6) := ⟨by decide, by decide, fun c hc => by
  rcases am_mem4 hc with rfl | rfl | rfl | rfl
  · exact ⟨RX9, TX9, 18, "CityBrigade$Crew", rfl, by decide, rfl, in_X9, Or.inl q798, Or.inl rfl⟩
  · exact ⟨RX10, TX10, 19, "CityBrigade$Crew", rfl, by decide, rfl, in_X10, Or.inl q798, Or.inl rfl⟩
  · exact ⟨RX11, TX11, 17, "CityBrigade$Crew", rfl, by decide, rfl, in_X11, Or.inl q798, Or.inl rfl⟩
  · exact ⟨RX12, TX12, 16, "CityBrigade$Crew", rfl, by decide, rfl, in_X12, Or.inl q798, Or.inl rfl⟩⟩
theorem fd_X8_21 : amFd RX8 21 6 9 (0, 0, 0) (am_kl 6) := ⟨by decide, by decide, fun c hc => by
  rcases am_mem4 hc with rfl | rfl | rfl | rfl
  · exact ⟨RX9, TX9, 18, "CityBrigade$Crew", rfl, by decide, rfl, in_X9, Or.inl q800, Or.inl rfl⟩
  · exact ⟨RX10, TX10, 19, "CityBrigade$Crew", rfl, by decide, rfl, in_X10, Or.inl q800, Or.inl rfl⟩
  · exact ⟨RX11, TX11, 17, "CityBrigade$Crew", rfl, by decide, rfl, in_X11, Or.inl q800, Or.inl rfl⟩
  · exact ⟨RX12, TX12, 16, "CityBrigade$Crew", rfl, by decide, rfl, in_X12, Or.inl q800, Or.inl rfl⟩⟩
theorem fd_X8_24 : amFd RX8 24 6 13 (0, 0, 0) (am_kl 6) := ⟨by decide, by decide, fun c hc => by
  rcases am_mem4 hc with rfl | rfl | rfl | rfl
  · exact ⟨RX9, TX9, 18, "CityBrigade$Crew", rfl, by decide, rfl, in_X9, Or.inl q806, Or.inl rfl⟩
  · exact ⟨RX10, TX10, 19, "CityBrigade$Crew", rfl, by decide, rfl, in_X10, Or.inl q806, Or.inl rfl⟩
  · exact ⟨RX11, TX11, 17, "CityBrigade$Crew", rfl, by decide, rfl, in_X11, Or.inl q806, Or.inl rfl⟩
  · exact ⟨RX12, TX12, 16, "CityBrigade$Crew", rfl, by decide, rfl, in_X12, Or.inl q806, Or.inl rfl⟩⟩
theorem fd_X8_27 : amFd RX8 27 6 0 (0, 0, 0) (am_kl 6) := ⟨by decide, by decide, fun c hc => by
  rcases am_mem4 hc with rfl | rfl | rfl | rfl
  · exact ⟨RX9, TX9, 18, "CityBrigade$Crew", rfl, by decide, rfl, in_X9, Or.inl q784, Or.inl rfl⟩
  · exact ⟨RX10, TX10, 19, "CityBrigade$Crew", rfl, by decide, rfl, in_X10, Or.inl q784, Or.inl rfl⟩
  · exact ⟨RX11, TX11, 17, "CityBrigade$Crew", rfl, by decide, rfl, in_X11, Or.inl q784, Or.inl rfl⟩
  · exact ⟨RX12, TX12, 16, "CityBrigade$Crew", rfl, by decide, rfl, in_X12, Or.inl q784, Or.inl rfl⟩⟩
theorem fd_X8_30 : amFd RX8 30 6 1 (0, 0, 0) (am_kl 6) := ⟨by decide, by decide, fun c hc => by
  rcases am_mem4 hc with rfl | rfl | rfl | rfl
  · exact ⟨RX9, TX9, 18, "CityBrigade$Crew", rfl, by decide, rfl, in_X9, Or.inl q786, Or.inl rfl⟩
  · exact ⟨RX10, TX10, 19, "CityBrigade$Crew", rfl, by decide, rfl, in_X10, Or.inl q786, Or.inl rfl⟩
  · exact ⟨RX11, TX11, 17, "CityBrigade$Crew", rfl, by decide, rfl, in_X11, Or.inl q786, Or.inl rfl⟩
  · exact ⟨RX12, TX12, 16, "CityBrigade$Crew", rfl, by decide, rfl, in_X12, Or.inl q786, Or.inl rfl⟩⟩
theorem fd_X8_33 : amFd RX8 33 6 4 (0, 0, 0) (am_kl 6) := ⟨by decide, by decide, fun c hc => by
  rcases am_mem4 hc with rfl | rfl | rfl | rfl
  · exact ⟨RX9, TX9, 18, "CityBrigade$Crew", rfl, by decide, rfl, in_X9, Or.inl q791, Or.inl rfl⟩
  · exact ⟨RX10, TX10, 19, "CityBrigade$Crew", rfl, by decide, rfl, in_X10, Or.inl q791, Or.inl rfl⟩
  · exact ⟨RX11, TX11, 17, "CityBrigade$Crew", rfl, by decide, rfl, in_X11, Or.inl q791, Or.inl rfl⟩
  · exact ⟨RX12, TX12, 16, "CityBrigade$Crew", rfl, by decide, rfl, in_X12, Or.inl q791, Or.inl rfl⟩⟩
theorem fd_X8_37 : amFd RX8 37 6 2 (0, 0, 0) (am_kl 6) := ⟨by decide, by decide, fun c hc => by
  rcases am_mem4 hc with rfl | rfl | rfl | rfl
  · exact ⟨RX9, TX9, 18, "CityBrigade$Crew", rfl, by decide, rfl, in_X9, Or.inl q788, Or.inl rfl⟩
  · exact ⟨RX10, TX10, 19, "CityBrigade$Crew", rfl, by decide, rfl, in_X10, Or.inl q788, Or.inl rfl⟩
  · exact ⟨RX11, TX11, 17, "CityBrigade$Crew", rfl, by decide, rfl, in_X11, Or.inl q788, Or.inl rfl⟩
  · exact ⟨RX12, TX12, 16, "CityBrigade$Crew", rfl, by decide, rfl, in_X12, Or.inl q788, Or.inl rfl⟩⟩
theorem fd_X8_40 : amFd RX8 40 6 3 (0, 0, 0) (am_kl 6) := ⟨by decide, by decide, fun c hc => by
  rcases am_mem4 hc with rfl | rfl | rfl | rfl
  · exact ⟨RX9, TX9, 18, "CityBrigade$Crew", rfl, by decide, rfl, in_X9, Or.inl q789, Or.inl rfl⟩
  · exact ⟨RX10, TX10, 19, "CityBrigade$Crew", rfl, by decide, rfl, in_X10, Or.inl q789, Or.inl rfl⟩
  · exact ⟨RX11, TX11, 17, "CityBrigade$Crew", rfl, by decide, rfl, in_X11, Or.inl q789, Or.inl rfl⟩
  · exact ⟨RX12, TX12, 16, "CityBrigade$Crew", rfl, by decide, rfl, in_X12, Or.inl q789, Or.inl rfl⟩⟩
theorem fd_X8_43 : amFd RX8 43 6 6 (0, 0, 0) (am_kl 6) := ⟨by decide, by decide, fun c hc => by
  rcases am_mem4 hc with rfl | rfl | rfl | rfl
  · exact ⟨RX9, TX9, 18, "CityBrigade$Crew", rfl, by decide, rfl, in_X9, Or.inl q794, Or.inl rfl⟩
  · exact ⟨RX10, TX10, 19, "CityBrigade$Crew", rfl, by decide, rfl, in_X10, Or.inl q794, Or.inl rfl⟩
  · exact ⟨RX11, TX11, 17, "CityBrigade$Crew", rfl, by decide, rfl, in_X11, Or.inl q794, Or.inl rfl⟩
  · exact ⟨RX12, TX12, 16, "CityBrigade$Crew", rfl, by decide, rfl, in_X12, Or.inl q794, Or.inl rfl⟩⟩
theorem fd_X8_52 : amFd RX8 52 6 10 (0, 0, 0) (am_kl 6) := ⟨by decide, by decide, fun c hc => by
  rcases am_mem4 hc with rfl | rfl | rfl | rfl
  · exact ⟨RX9, TX9, 18, "CityBrigade$Crew", rfl, by decide, rfl, in_X9, Or.inl q802, Or.inl rfl⟩
  · exact ⟨RX10, TX10, 19, "CityBrigade$Crew", rfl, by decide, rfl, in_X10, Or.inl q802, Or.inl rfl⟩
  · exact ⟨RX11, TX11, 17, "CityBrigade$Crew", rfl, by decide, rfl, in_X11, Or.inl q802, Or.inl rfl⟩
  · exact ⟨RX12, TX12, 16, "CityBrigade$Crew", rfl, by decide, rfl, in_X12, Or.inl q802, Or.inl rfl⟩⟩
theorem fd_X8_9 : amFd RX8 9 6 5 (0, 0, 0) (am_kl 6) := ⟨by decide, by decide, fun c hc => by
  rcases am_mem4 hc with rfl | rfl | rfl | rfl
  · exact ⟨RX9, TX9, 18, "CityBrigade$Crew", rfl, by decide, rfl, in_X9, Or.inl q792, Or.inl rfl⟩
  · exact ⟨RX10, TX10, 19, "CityBrigade$Crew", rfl, by decide, rfl, in_X10, Or.inl q792, Or.inl rfl⟩
  · exact ⟨RX11, TX11, 17, "CityBrigade$Crew", rfl, by decide, rfl, in_X11, Or.inl q792, Or.inl rfl⟩
  · exact ⟨RX12, TX12, 16, "CityBrigade$Crew", rfl, by decide, rfl, in_X12, Or.inl q792, Or.inl rfl⟩⟩
theorem fd_X9_13 : amFd RX9 13 6 17 (0, 0, 0) [6, 7] := ⟨by decide, by decide, fun c hc => by
  rcases am_mem2 hc with rfl | rfl
  · exact ⟨RX9, TX9, 18, "CityBrigade$Pump", rfl, by decide, rfl, in_X9, Or.inl q783, Or.inl rfl⟩
  · exact ⟨RX10, TX10, 19, "CityBrigade$Pump", rfl, by decide, rfl, in_X10, Or.inl q783, Or.inl rfl⟩⟩
theorem fd_X9_7 : amFd RX9 7 6 16 (0, 0, 0) [6, 7] := ⟨by decide, by decide, fun c hc => by
  rcases am_mem2 hc with rfl | rfl
  · exact ⟨RX9, TX9, 18, "CityBrigade$Pump", rfl, by decide, rfl, in_X9, Or.inl q782, Or.inl rfl⟩
  · exact ⟨RX10, TX10, 19, "CityBrigade$Pump", rfl, by decide, rfl, in_X10, Or.inl q782, Or.inl rfl⟩⟩
theorem fp_X10_7 : amFp RX10 7 6 18 (0, 0, 0) [7] .int false := ⟨fd_X10_7, fun c hc C T n e => by
  obtain rfl : c = 7 := List.mem_singleton.mp hc
  exact (by cases e; exact ⟨⟨tyX10, tyX10_ok⟩, nmX10, by decide +kernel, rfl, fun h => by cases h⟩)⟩
theorem fp_X11_9 : amFp RX11 9 6 16 (0, 0, 0) [8] .int false := ⟨fd_X11_9, fun c hc C T n e => by
  obtain rfl : c = 8 := List.mem_singleton.mp hc
  exact (by cases e; exact ⟨⟨tyX11, tyX11_ok⟩, nmX11, by decide +kernel, rfl, fun h => by cases h⟩)⟩
theorem fp_X13_15 : amFp RX13 15 7 4 (0, 0, 0) (am_kl 7) .int false := ⟨fd_X13_15, fun c hc C T n e => by
  obtain rfl : c = 10 := List.mem_singleton.mp hc
  exact (by cases e; exact ⟨⟨tyX13, tyX13_ok⟩, nmX13, by decide +kernel, rfl, fun h => by cases h⟩)⟩
theorem fp_X13_18 : amFp RX13 18 7 5 (0, 0, 0) (am_kl 7) .int false := ⟨fd_X13_18, fun c hc C T n e => by
  obtain rfl : c = 10 := List.mem_singleton.mp hc
  exact (by cases e; exact ⟨⟨tyX13, tyX13_ok⟩, nmX13, by decide +kernel, rfl, fun h => by cases h⟩)⟩
theorem fp_X13_21 : amFp RX13 21 7 8 (0, 0, 0) (am_kl 7) .int false := ⟨fd_X13_21, fun c hc C T n e => by
  obtain rfl : c = 10 := List.mem_singleton.mp hc
  exact (by cases e; exact ⟨⟨tyX13, tyX13_ok⟩, nmX13, by decide +kernel, rfl, fun h => by cases h⟩)⟩
theorem fp_X13_24 : amFp RX13 24 7 0 (0, 0, 0) (am_kl 7) .int true := ⟨fd_X13_24, fun c hc C T n e => by
  obtain rfl : c = 10 := List.mem_singleton.mp hc
  exact (by cases e; exact ⟨⟨tyX13, tyX13_ok⟩, nmX13, by decide +kernel, rfl, fun h => ⟨rfl, _, q1415, rfl⟩⟩)⟩
theorem fp_X13_27 : amFp RX13 27 7 1 (0, 0, 0) (am_kl 7) .int true := ⟨fd_X13_27, fun c hc C T n e => by
  obtain rfl : c = 10 := List.mem_singleton.mp hc
  exact (by cases e; exact ⟨⟨tyX13, tyX13_ok⟩, nmX13, by decide +kernel, rfl, fun h => ⟨rfl, _, q1417, rfl⟩⟩)⟩
theorem fp_X13_30 : amFp RX13 30 7 2 (0, 0, 0) (am_kl 7) .int true := ⟨fd_X13_30, fun c hc C T n e => by
  obtain rfl : c = 10 := List.mem_singleton.mp hc
  exact (by cases e; exact ⟨⟨tyX13, tyX13_ok⟩, nmX13, by decide +kernel, rfl, fun h => ⟨rfl, _, q1419, rfl⟩⟩)⟩
theorem fp_X13_9 : amFp RX13 9 7 3 (0, 0, 0) (am_kl 7) .int false := ⟨fd_X13_9, fun c hc C T n e => by
  obtain rfl : c = 10 := List.mem_singleton.mp hc
  exact (by cases e; exact ⟨⟨tyX13, tyX13_ok⟩, nmX13, by decide +kernel, rfl, fun h => by cases h⟩)⟩
theorem fp_X15_7 : amFp RX15 7 10 0 (1, 10, 0) [16] (.object "CityBrigade$Test") true := ⟨fd_X15_7, fun c hc C T n e => by
  obtain rfl : c = 16 := List.mem_singleton.mp hc
  exact (by cases e; exact ⟨⟨tyX15, tyX15_ok⟩, nmX15, by decide +kernel, rfl, fun h => ⟨rfl, _, q1093, rfl⟩⟩)⟩
theorem fp_X17_7 : amFp RX17 7 9 0 (0, 0, 0) [13] .int true := ⟨fd_X17_7, fun c hc C T n e => by
  obtain rfl : c = 13 := List.mem_singleton.mp hc
  exact (by cases e; exact ⟨⟨tyX17, tyX17_ok⟩, nmX17, by decide +kernel, rfl, fun h => ⟨rfl, _, q1212, rfl⟩⟩)⟩
theorem fp_X18_7 : amFp RX18 7 9 0 (0, 0, 0) [12] .int true := ⟨fd_X18_7, fun c hc C T n e => by
  obtain rfl : c = 12 := List.mem_singleton.mp hc
  exact (by cases e; exact ⟨⟨tyX18, tyX18_ok⟩, nmX18, by decide +kernel, rfl, fun h => ⟨rfl, _, q1229, rfl⟩⟩)⟩
theorem fp_X19_15 : amFp RX19 15 9 1 (1, 9, 0) [14] (.object "CityBrigade$Sum") true := ⟨fd_X19_15, fun c hc C T n e => by
  obtain rfl : c = 14 := List.mem_singleton.mp hc
  exact (by cases e; exact ⟨⟨tyX19, tyX19_ok⟩, nmX19, by decide +kernel, rfl, fun h => ⟨rfl, _, q1240, rfl⟩⟩)⟩
theorem fp_X19_19 : amFp RX19 19 9 2 (1, 9, 0) [14] (.object "CityBrigade$Sum") true := ⟨fd_X19_19, fun c hc C T n e => by
  obtain rfl : c = 14 := List.mem_singleton.mp hc
  exact (by cases e; exact ⟨⟨tyX19, tyX19_ok⟩, nmX19, by decide +kernel, rfl, fun h => ⟨rfl, _, q1241, rfl⟩⟩)⟩
theorem fp_X19_9 : amFp RX19 9 9 0 (0, 0, 0) [14] .int true := ⟨fd_X19_9, fun c hc C T n e => by
  obtain rfl : c = 14 := List.mem_singleton.mp hc
  exact (by cases e; exact ⟨⟨tyX19, tyX19_ok⟩, nmX19, by decide +kernel, rfl, fun h => ⟨rfl, _, q1239, rfl⟩⟩)⟩
theorem fp_X1_147 : amFp RX1 147 0 2 (0, 0, 0) (am_kl 0) .int false := ⟨fd_X1_147, fun c hc C T n e => by
  obtain rfl : c = 0 := List.mem_singleton.mp hc
  exact (by cases e; exact ⟨⟨tyX1, tyX1_ok⟩, nmX1, by decide +kernel, rfl, fun h => by cases h⟩)⟩
theorem fp_X1_160 : amFp RX1 160 2 4 (0, 0, 0) (am_kl 2) .boolean false := ⟨fd_X1_160, fun c hc C T n e => by
  obtain rfl : c = 2 := List.mem_singleton.mp hc
  exact (by cases e; exact ⟨⟨tyX4, tyX4_ok⟩, nmX4, by decide +kernel, rfl, fun h => by cases h⟩)⟩
theorem fp_X1_199 : amFp RX1 199 0 6 (0, 0, 0) (am_kl 0) .int false := ⟨fd_X1_199, fun c hc C T n e => by
  obtain rfl : c = 0 := List.mem_singleton.mp hc
  exact (by cases e; exact ⟨⟨tyX1, tyX1_ok⟩, nmX1, by decide +kernel, rfl, fun h => by cases h⟩)⟩
theorem fp_X1_215 : amFp RX1 215 3 5 (0, 0, 0) (am_kl 3) .boolean false := ⟨fd_X1_215, fun c hc C T n e => by
  obtain rfl : c = 3 := List.mem_singleton.mp hc
  exact (by cases e; exact ⟨⟨tyX5, tyX5_ok⟩, nmX5, by decide +kernel, rfl, fun h => by cases h⟩)⟩
theorem fp_X1_218 : amFp RX1 218 3 6 (0, 0, 0) (am_kl 3) .int false := ⟨fd_X1_218, fun c hc C T n e => by
  obtain rfl : c = 3 := List.mem_singleton.mp hc
  exact (by cases e; exact ⟨⟨tyX5, tyX5_ok⟩, nmX5, by decide +kernel, rfl, fun h => by cases h⟩)⟩
theorem fp_X1_221 : amFp RX1 221 3 7 (0, 0, 0) (am_kl 3) .int false := ⟨fd_X1_221, fun c hc C T n e => by
  obtain rfl : c = 3 := List.mem_singleton.mp hc
  exact (by cases e; exact ⟨⟨tyX5, tyX5_ok⟩, nmX5, by decide +kernel, rfl, fun h => by cases h⟩)⟩
theorem fp_X1_228 : amFp RX1 228 3 8 (0, 0, 0) (am_kl 3) .int false := ⟨fd_X1_228, fun c hc C T n e => by
  obtain rfl : c = 3 := List.mem_singleton.mp hc
  exact (by cases e; exact ⟨⟨tyX5, tyX5_ok⟩, nmX5, by decide +kernel, rfl, fun h => by cases h⟩)⟩
theorem fp_X1_292 : amFp RX1 292 3 9 (0, 0, 0) (am_kl 3) .int false := ⟨fd_X1_292, fun c hc C T n e => by
  obtain rfl : c = 3 := List.mem_singleton.mp hc
  exact (by cases e; exact ⟨⟨tyX5, tyX5_ok⟩, nmX5, by decide +kernel, rfl, fun h => by cases h⟩)⟩
theorem fp_X1_295 : amFp RX1 295 3 10 (0, 0, 0) (am_kl 3) .int false := ⟨fd_X1_295, fun c hc C T n e => by
  obtain rfl : c = 3 := List.mem_singleton.mp hc
  exact (by cases e; exact ⟨⟨tyX5, tyX5_ok⟩, nmX5, by decide +kernel, rfl, fun h => by cases h⟩)⟩
theorem fp_X1_305 : amFp RX1 305 3 11 (0, 0, 0) (am_kl 3) .int false := ⟨fd_X1_305, fun c hc C T n e => by
  obtain rfl : c = 3 := List.mem_singleton.mp hc
  exact (by cases e; exact ⟨⟨tyX5, tyX5_ok⟩, nmX5, by decide +kernel, rfl, fun h => by cases h⟩)⟩
theorem fp_X1_356 : amFp RX1 356 0 10 (0, 0, 0) (am_kl 0) .int false := ⟨fd_X1_356, fun c hc C T n e => by
  obtain rfl : c = 0 := List.mem_singleton.mp hc
  exact (by cases e; exact ⟨⟨tyX1, tyX1_ok⟩, nmX1, by decide +kernel, rfl, fun h => by cases h⟩)⟩
theorem fp_X1_359 : amFp RX1 359 0 11 (0, 0, 0) (am_kl 0) .int false := ⟨fd_X1_359, fun c hc C T n e => by
  obtain rfl : c = 0 := List.mem_singleton.mp hc
  exact (by cases e; exact ⟨⟨tyX1, tyX1_ok⟩, nmX1, by decide +kernel, rfl, fun h => by cases h⟩)⟩
theorem fp_X1_365 : amFp RX1 365 0 13 (0, 0, 0) (am_kl 0) .int false := ⟨fd_X1_365, fun c hc C T n e => by
  obtain rfl : c = 0 := List.mem_singleton.mp hc
  exact (by cases e; exact ⟨⟨tyX1, tyX1_ok⟩, nmX1, by decide +kernel, rfl, fun h => by cases h⟩)⟩
theorem fp_X1_389 : amFp RX1 389 6 5 (0, 0, 0) (am_kl 6) .int false := ⟨fd_X1_389, fun c hc C T n e => by
  rcases am_mem4 hc with rfl | rfl | rfl | rfl
  · exact (by cases e; exact ⟨⟨tyX9, tyX9_ok⟩, nmX9, by decide +kernel, rfl, fun h => by cases h⟩)
  · exact (by cases e; exact ⟨⟨tyX10, tyX10_ok⟩, nmX10, by decide +kernel, rfl, fun h => by cases h⟩)
  · exact (by cases e; exact ⟨⟨tyX11, tyX11_ok⟩, nmX11, by decide +kernel, rfl, fun h => by cases h⟩)
  · exact (by cases e; exact ⟨⟨tyX12, tyX12_ok⟩, nmX12, by decide +kernel, rfl, fun h => by cases h⟩)⟩
theorem fp_X1_395 : amFp RX1 395 6 6 (0, 0, 0) (am_kl 6) .int false := ⟨fd_X1_395, fun c hc C T n e => by
  rcases am_mem4 hc with rfl | rfl | rfl | rfl
  · exact (by cases e; exact ⟨⟨tyX9, tyX9_ok⟩, nmX9, by decide +kernel, rfl, fun h => by cases h⟩)
  · exact (by cases e; exact ⟨⟨tyX10, tyX10_ok⟩, nmX10, by decide +kernel, rfl, fun h => by cases h⟩)
  · exact (by cases e; exact ⟨⟨tyX11, tyX11_ok⟩, nmX11, by decide +kernel, rfl, fun h => by cases h⟩)
  · exact (by cases e; exact ⟨⟨tyX12, tyX12_ok⟩, nmX12, by decide +kernel, rfl, fun h => by cases h⟩)⟩
theorem fp_X1_398 : amFp RX1 398 6 7 (0, 0, 0) (am_kl 6) .int false := ⟨fd_X1_398, fun c hc C T n e => by
  rcases am_mem4 hc with rfl | rfl | rfl | rfl
  · exact (by cases e; exact ⟨⟨tyX9, tyX9_ok⟩, nmX9, by decide +kernel, rfl, fun h => by cases h⟩)
  · exact (by cases e; exact ⟨⟨tyX10, tyX10_ok⟩, nmX10, by decide +kernel, rfl, fun h => by cases h⟩)
  · exact (by cases e; exact ⟨⟨tyX11, tyX11_ok⟩, nmX11, by decide +kernel, rfl, fun h => by cases h⟩)
  · exact (by cases e; exact ⟨⟨tyX12, tyX12_ok⟩, nmX12, by decide +kernel, rfl, fun h => by cases h⟩)⟩
theorem fp_X1_401 : amFp RX1 401 6 15 (1, 3, 0) (am_kl 6) (.object "CityBrigade$House") false := ⟨fd_X1_401, fun c hc C T n e => by
  rcases am_mem4 hc with rfl | rfl | rfl | rfl
  · exact (by cases e; exact ⟨⟨tyX9, tyX9_ok⟩, nmX9, by decide +kernel, rfl, fun h => by cases h⟩)
  · exact (by cases e; exact ⟨⟨tyX10, tyX10_ok⟩, nmX10, by decide +kernel, rfl, fun h => by cases h⟩)
  · exact (by cases e; exact ⟨⟨tyX11, tyX11_ok⟩, nmX11, by decide +kernel, rfl, fun h => by cases h⟩)
  · exact (by cases e; exact ⟨⟨tyX12, tyX12_ok⟩, nmX12, by decide +kernel, rfl, fun h => by cases h⟩)⟩
theorem fp_X1_405 : amFp RX1 405 6 9 (0, 0, 0) (am_kl 6) .int false := ⟨fd_X1_405, fun c hc C T n e => by
  rcases am_mem4 hc with rfl | rfl | rfl | rfl
  · exact (by cases e; exact ⟨⟨tyX9, tyX9_ok⟩, nmX9, by decide +kernel, rfl, fun h => by cases h⟩)
  · exact (by cases e; exact ⟨⟨tyX10, tyX10_ok⟩, nmX10, by decide +kernel, rfl, fun h => by cases h⟩)
  · exact (by cases e; exact ⟨⟨tyX11, tyX11_ok⟩, nmX11, by decide +kernel, rfl, fun h => by cases h⟩)
  · exact (by cases e; exact ⟨⟨tyX12, tyX12_ok⟩, nmX12, by decide +kernel, rfl, fun h => by cases h⟩)⟩
theorem fp_X1_415 : amFp RX1 415 0 0 (0, 0, 0) (am_kl 0) .int false := ⟨fd_X1_415, fun c hc C T n e => by
  obtain rfl : c = 0 := List.mem_singleton.mp hc
  exact (by cases e; exact ⟨⟨tyX1, tyX1_ok⟩, nmX1, by decide +kernel, rfl, fun h => by cases h⟩)⟩
theorem fp_X1_428 : amFp RX1 428 6 8 (0, 0, 0) (am_kl 6) .int false := ⟨fd_X1_428, fun c hc C T n e => by
  rcases am_mem4 hc with rfl | rfl | rfl | rfl
  · exact (by cases e; exact ⟨⟨tyX9, tyX9_ok⟩, nmX9, by decide +kernel, rfl, fun h => by cases h⟩)
  · exact (by cases e; exact ⟨⟨tyX10, tyX10_ok⟩, nmX10, by decide +kernel, rfl, fun h => by cases h⟩)
  · exact (by cases e; exact ⟨⟨tyX11, tyX11_ok⟩, nmX11, by decide +kernel, rfl, fun h => by cases h⟩)
  · exact (by cases e; exact ⟨⟨tyX12, tyX12_ok⟩, nmX12, by decide +kernel, rfl, fun h => by cases h⟩)⟩
theorem fp_X1_437 : amFp RX1 437 6 11 (0, 0, 0) (am_kl 6) .int false := ⟨fd_X1_437, fun c hc C T n e => by
  rcases am_mem4 hc with rfl | rfl | rfl | rfl
  · exact (by cases e; exact ⟨⟨tyX9, tyX9_ok⟩, nmX9, by decide +kernel, rfl, fun h => by cases h⟩)
  · exact (by cases e; exact ⟨⟨tyX10, tyX10_ok⟩, nmX10, by decide +kernel, rfl, fun h => by cases h⟩)
  · exact (by cases e; exact ⟨⟨tyX11, tyX11_ok⟩, nmX11, by decide +kernel, rfl, fun h => by cases h⟩)
  · exact (by cases e; exact ⟨⟨tyX12, tyX12_ok⟩, nmX12, by decide +kernel, rfl, fun h => by cases h⟩)⟩
theorem fp_X1_458 : amFp RX1 458 0 17 (0, 0, 0) (am_kl 0) .int false := ⟨fd_X1_458, fun c hc C T n e => by
  obtain rfl : c = 0 := List.mem_singleton.mp hc
  exact (by cases e; exact ⟨⟨tyX1, tyX1_ok⟩, nmX1, by decide +kernel, rfl, fun h => by cases h⟩)⟩
theorem fp_X1_461 : amFp RX1 461 0 18 (0, 0, 0) (am_kl 0) .int false := ⟨fd_X1_461, fun c hc C T n e => by
  obtain rfl : c = 0 := List.mem_singleton.mp hc
  exact (by cases e; exact ⟨⟨tyX1, tyX1_ok⟩, nmX1, by decide +kernel, rfl, fun h => by cases h⟩)⟩
theorem fp_X1_480 : amFp RX1 480 0 19 (0, 0, 0) (am_kl 0) .int false := ⟨fd_X1_480, fun c hc C T n e => by
  obtain rfl : c = 0 := List.mem_singleton.mp hc
  exact (by cases e; exact ⟨⟨tyX1, tyX1_ok⟩, nmX1, by decide +kernel, rfl, fun h => by cases h⟩)⟩
theorem fp_X1_493 : amFp RX1 493 0 20 (0, 0, 0) (am_kl 0) .int false := ⟨fd_X1_493, fun c hc C T n e => by
  obtain rfl : c = 0 := List.mem_singleton.mp hc
  exact (by cases e; exact ⟨⟨tyX1, tyX1_ok⟩, nmX1, by decide +kernel, rfl, fun h => by cases h⟩)⟩
theorem fp_X1_552 : amFp RX1 552 8 2 (0, 0, 0) (am_kl 8) .int false := ⟨fd_X1_552, fun c hc C T n e => by
  obtain rfl : c = 11 := List.mem_singleton.mp hc
  exact (by cases e; exact ⟨⟨tyX22, tyX22_ok⟩, nmX22, by decide +kernel, rfl, fun h => by cases h⟩)⟩
theorem fp_X1_569 : amFp RX1 569 8 3 (1, 8, 0) (am_kl 8) (.object "CityBrigade$Clause") false := ⟨fd_X1_569, fun c hc C T n e => by
  obtain rfl : c = 11 := List.mem_singleton.mp hc
  exact (by cases e; exact ⟨⟨tyX22, tyX22_ok⟩, nmX22, by decide +kernel, rfl, fun h => by cases h⟩)⟩
theorem fp_X1_580 : amFp RX1 580 0 23 (0, 0, 0) (am_kl 0) .int false := ⟨fd_X1_580, fun c hc C T n e => by
  obtain rfl : c = 0 := List.mem_singleton.mp hc
  exact (by cases e; exact ⟨⟨tyX1, tyX1_ok⟩, nmX1, by decide +kernel, rfl, fun h => by cases h⟩)⟩
theorem fp_X1_583 : amFp RX1 583 0 22 (1, 10, 0) (am_kl 0) (.object "CityBrigade$Test") false := ⟨fd_X1_583, fun c hc C T n e => by
  obtain rfl : c = 0 := List.mem_singleton.mp hc
  exact (by cases e; exact ⟨⟨tyX1, tyX1_ok⟩, nmX1, by decide +kernel, rfl, fun h => by cases h⟩)⟩
theorem fp_X1_587 : amFp RX1 587 0 25 (0, 0, 0) (am_kl 0) .int false := ⟨fd_X1_587, fun c hc C T n e => by
  obtain rfl : c = 0 := List.mem_singleton.mp hc
  exact (by cases e; exact ⟨⟨tyX1, tyX1_ok⟩, nmX1, by decide +kernel, rfl, fun h => by cases h⟩)⟩
theorem fp_X1_591 : amFp RX1 591 7 4 (0, 0, 0) (am_kl 7) .int false := ⟨fd_X1_591, fun c hc C T n e => by
  obtain rfl : c = 10 := List.mem_singleton.mp hc
  exact (by cases e; exact ⟨⟨tyX13, tyX13_ok⟩, nmX13, by decide +kernel, rfl, fun h => by cases h⟩)⟩
theorem fp_X1_598 : amFp RX1 598 7 9 (0, 0, 0) (am_kl 7) .boolean false := ⟨fd_X1_598, fun c hc C T n e => by
  obtain rfl : c = 10 := List.mem_singleton.mp hc
  exact (by cases e; exact ⟨⟨tyX13, tyX13_ok⟩, nmX13, by decide +kernel, rfl, fun h => by cases h⟩)⟩
theorem fp_X1_618 : amFp RX1 618 0 27 (0, 0, 0) (am_kl 0) .int false := ⟨fd_X1_618, fun c hc C T n e => by
  obtain rfl : c = 0 := List.mem_singleton.mp hc
  exact (by cases e; exact ⟨⟨tyX1, tyX1_ok⟩, nmX1, by decide +kernel, rfl, fun h => by cases h⟩)⟩
theorem fp_X1_633 : amFp RX1 633 0 28 (0, 0, 0) (am_kl 0) .int false := ⟨fd_X1_633, fun c hc C T n e => by
  obtain rfl : c = 0 := List.mem_singleton.mp hc
  exact (by cases e; exact ⟨⟨tyX1, tyX1_ok⟩, nmX1, by decide +kernel, rfl, fun h => by cases h⟩)⟩
theorem fp_X1_636 : amFp RX1 636 7 3 (0, 0, 0) (am_kl 7) .int false := ⟨fd_X1_636, fun c hc C T n e => by
  obtain rfl : c = 10 := List.mem_singleton.mp hc
  exact (by cases e; exact ⟨⟨tyX13, tyX13_ok⟩, nmX13, by decide +kernel, rfl, fun h => by cases h⟩)⟩
theorem fp_X1_643 : amFp RX1 643 7 7 (0, 0, 0) (am_kl 7) .int false := ⟨fd_X1_643, fun c hc C T n e => by
  obtain rfl : c = 10 := List.mem_singleton.mp hc
  exact (by cases e; exact ⟨⟨tyX13, tyX13_ok⟩, nmX13, by decide +kernel, rfl, fun h => by cases h⟩)⟩
theorem fp_X1_648 : amFp RX1 648 7 6 (0, 0, 0) (am_kl 7) .int false := ⟨fd_X1_648, fun c hc C T n e => by
  obtain rfl : c = 10 := List.mem_singleton.mp hc
  exact (by cases e; exact ⟨⟨tyX13, tyX13_ok⟩, nmX13, by decide +kernel, rfl, fun h => by cases h⟩)⟩
theorem fp_X1_671 : amFp RX1 671 7 8 (0, 0, 0) (am_kl 7) .int false := ⟨fd_X1_671, fun c hc C T n e => by
  obtain rfl : c = 10 := List.mem_singleton.mp hc
  exact (by cases e; exact ⟨⟨tyX13, tyX13_ok⟩, nmX13, by decide +kernel, rfl, fun h => by cases h⟩)⟩
theorem fp_X1_674 : amFp RX1 674 7 5 (0, 0, 0) (am_kl 7) .int false := ⟨fd_X1_674, fun c hc C T n e => by
  obtain rfl : c = 10 := List.mem_singleton.mp hc
  exact (by cases e; exact ⟨⟨tyX13, tyX13_ok⟩, nmX13, by decide +kernel, rfl, fun h => by cases h⟩)⟩
theorem fp_X1_681 : amFp RX1 681 6 12 (0, 0, 0) (am_kl 6) .int false := ⟨fd_X1_681, fun c hc C T n e => by
  rcases am_mem4 hc with rfl | rfl | rfl | rfl
  · exact (by cases e; exact ⟨⟨tyX9, tyX9_ok⟩, nmX9, by decide +kernel, rfl, fun h => by cases h⟩)
  · exact (by cases e; exact ⟨⟨tyX10, tyX10_ok⟩, nmX10, by decide +kernel, rfl, fun h => by cases h⟩)
  · exact (by cases e; exact ⟨⟨tyX11, tyX11_ok⟩, nmX11, by decide +kernel, rfl, fun h => by cases h⟩)
  · exact (by cases e; exact ⟨⟨tyX12, tyX12_ok⟩, nmX12, by decide +kernel, rfl, fun h => by cases h⟩)⟩
theorem fp_X1_693 : amFp RX1 693 6 14 (0, 0, 0) (am_kl 6) .int false := ⟨fd_X1_693, fun c hc C T n e => by
  rcases am_mem4 hc with rfl | rfl | rfl | rfl
  · exact (by cases e; exact ⟨⟨tyX9, tyX9_ok⟩, nmX9, by decide +kernel, rfl, fun h => by cases h⟩)
  · exact (by cases e; exact ⟨⟨tyX10, tyX10_ok⟩, nmX10, by decide +kernel, rfl, fun h => by cases h⟩)
  · exact (by cases e; exact ⟨⟨tyX11, tyX11_ok⟩, nmX11, by decide +kernel, rfl, fun h => by cases h⟩)
  · exact (by cases e; exact ⟨⟨tyX12, tyX12_ok⟩, nmX12, by decide +kernel, rfl, fun h => by cases h⟩)⟩
theorem fp_X1_695 : amFp RX1 695 6 13 (0, 0, 0) (am_kl 6) .int false := ⟨fd_X1_695, fun c hc C T n e => by
  rcases am_mem4 hc with rfl | rfl | rfl | rfl
  · exact (by cases e; exact ⟨⟨tyX9, tyX9_ok⟩, nmX9, by decide +kernel, rfl, fun h => by cases h⟩)
  · exact (by cases e; exact ⟨⟨tyX10, tyX10_ok⟩, nmX10, by decide +kernel, rfl, fun h => by cases h⟩)
  · exact (by cases e; exact ⟨⟨tyX11, tyX11_ok⟩, nmX11, by decide +kernel, rfl, fun h => by cases h⟩)
  · exact (by cases e; exact ⟨⟨tyX12, tyX12_ok⟩, nmX12, by decide +kernel, rfl, fun h => by cases h⟩)⟩
theorem fp_X1_746 : amFp RX1 746 0 37 (0, 0, 0) (am_kl 0) .int false := ⟨fd_X1_746, fun c hc C T n e => by
  obtain rfl : c = 0 := List.mem_singleton.mp hc
  exact (by cases e; exact ⟨⟨tyX1, tyX1_ok⟩, nmX1, by decide +kernel, rfl, fun h => by cases h⟩)⟩
theorem fp_X1_755 : amFp RX1 755 0 38 (0, 0, 0) (am_kl 0) .int false := ⟨fd_X1_755, fun c hc C T n e => by
  obtain rfl : c = 0 := List.mem_singleton.mp hc
  exact (by cases e; exact ⟨⟨tyX1, tyX1_ok⟩, nmX1, by decide +kernel, rfl, fun h => by cases h⟩)⟩
theorem fp_X1_774 : amFp RX1 774 0 39 (0, 0, 0) (am_kl 0) .int false := ⟨fd_X1_774, fun c hc C T n e => by
  obtain rfl : c = 0 := List.mem_singleton.mp hc
  exact (by cases e; exact ⟨⟨tyX1, tyX1_ok⟩, nmX1, by decide +kernel, rfl, fun h => by cases h⟩)⟩
theorem fp_X1_781 : amFp RX1 781 0 45 (0, 0, 0) (am_kl 0) .int false := ⟨fd_X1_781, fun c hc C T n e => by
  obtain rfl : c = 0 := List.mem_singleton.mp hc
  exact (by cases e; exact ⟨⟨tyX1, tyX1_ok⟩, nmX1, by decide +kernel, rfl, fun h => by cases h⟩)⟩
theorem fp_X1_784 : amFp RX1 784 0 48 (0, 0, 0) (am_kl 0) .int false := ⟨fd_X1_784, fun c hc C T n e => by
  obtain rfl : c = 0 := List.mem_singleton.mp hc
  exact (by cases e; exact ⟨⟨tyX1, tyX1_ok⟩, nmX1, by decide +kernel, rfl, fun h => by cases h⟩)⟩
theorem fp_X1_787 : amFp RX1 787 0 49 (0, 0, 0) (am_kl 0) .int false := ⟨fd_X1_787, fun c hc C T n e => by
  obtain rfl : c = 0 := List.mem_singleton.mp hc
  exact (by cases e; exact ⟨⟨tyX1, tyX1_ok⟩, nmX1, by decide +kernel, rfl, fun h => by cases h⟩)⟩
theorem fp_X1_790 : amFp RX1 790 0 46 (0, 0, 0) (am_kl 0) .int false := ⟨fd_X1_790, fun c hc C T n e => by
  obtain rfl : c = 0 := List.mem_singleton.mp hc
  exact (by cases e; exact ⟨⟨tyX1, tyX1_ok⟩, nmX1, by decide +kernel, rfl, fun h => by cases h⟩)⟩
theorem fp_X1_793 : amFp RX1 793 0 47 (0, 0, 0) (am_kl 0) .int false := ⟨fd_X1_793, fun c hc C T n e => by
  obtain rfl : c = 0 := List.mem_singleton.mp hc
  exact (by cases e; exact ⟨⟨tyX1, tyX1_ok⟩, nmX1, by decide +kernel, rfl, fun h => by cases h⟩)⟩
theorem fp_X1_814 : amFp RX1 814 0 54 (0, 0, 0) (am_kl 0) .int false := ⟨fd_X1_814, fun c hc C T n e => by
  obtain rfl : c = 0 := List.mem_singleton.mp hc
  exact (by cases e; exact ⟨⟨tyX1, tyX1_ok⟩, nmX1, by decide +kernel, rfl, fun h => by cases h⟩)⟩
theorem fp_X1_826 : amFp RX1 826 0 57 (0, 0, 0) (am_kl 0) .int false := ⟨fd_X1_826, fun c hc C T n e => by
  obtain rfl : c = 0 := List.mem_singleton.mp hc
  exact (by cases e; exact ⟨⟨tyX1, tyX1_ok⟩, nmX1, by decide +kernel, rfl, fun h => by cases h⟩)⟩
theorem fp_X20_13 : amFp RX20 13 10 1 (1, 9, 0) [15] (.object "CityBrigade$Sum") true := ⟨fd_X20_13, fun c hc C T n e => by
  obtain rfl : c = 15 := List.mem_singleton.mp hc
  exact (by cases e; exact ⟨⟨tyX20, tyX20_ok⟩, nmX20, by decide +kernel, rfl, fun h => ⟨rfl, _, q1256, rfl⟩⟩)⟩
theorem fp_X20_17 : amFp RX20 17 10 2 (1, 9, 0) [15] (.object "CityBrigade$Sum") true := ⟨fd_X20_17, fun c hc C T n e => by
  obtain rfl : c = 15 := List.mem_singleton.mp hc
  exact (by cases e; exact ⟨⟨tyX20, tyX20_ok⟩, nmX20, by decide +kernel, rfl, fun h => ⟨rfl, _, q1257, rfl⟩⟩)⟩
theorem fp_X20_7 : amFp RX20 7 10 0 (0, 0, 0) [15] .int true := ⟨fd_X20_7, fun c hc C T n e => by
  obtain rfl : c = 15 := List.mem_singleton.mp hc
  exact (by cases e; exact ⟨⟨tyX20, tyX20_ok⟩, nmX20, by decide +kernel, rfl, fun h => ⟨rfl, _, q1255, rfl⟩⟩)⟩
theorem fp_X21_13 : amFp RX21 13 10 1 (1, 10, 0) [17] (.object "CityBrigade$Test") true := ⟨fd_X21_13, fun c hc C T n e => by
  obtain rfl : c = 17 := List.mem_singleton.mp hc
  exact (by cases e; exact ⟨⟨tyX21, tyX21_ok⟩, nmX21, by decide +kernel, rfl, fun h => ⟨rfl, _, q1272, rfl⟩⟩)⟩
theorem fp_X21_17 : amFp RX21 17 10 2 (1, 10, 0) [17] (.object "CityBrigade$Test") true := ⟨fd_X21_17, fun c hc C T n e => by
  obtain rfl : c = 17 := List.mem_singleton.mp hc
  exact (by cases e; exact ⟨⟨tyX21, tyX21_ok⟩, nmX21, by decide +kernel, rfl, fun h => ⟨rfl, _, q1273, rfl⟩⟩)⟩
theorem fp_X21_7 : amFp RX21 7 10 0 (0, 0, 0) [17] .boolean true := ⟨fd_X21_7, fun c hc C T n e => by
  obtain rfl : c = 17 := List.mem_singleton.mp hc
  exact (by cases e; exact ⟨⟨tyX21, tyX21_ok⟩, nmX21, by decide +kernel, rfl, fun h => ⟨rfl, _, q1271, rfl⟩⟩)⟩
theorem fp_X22_15 : amFp RX22 15 8 0 (1, 10, 0) (am_kl 8) (.object "CityBrigade$Test") true := ⟨fd_X22_15, fun c hc C T n e => by
  obtain rfl : c = 11 := List.mem_singleton.mp hc
  exact (by cases e; exact ⟨⟨tyX22, tyX22_ok⟩, nmX22, by decide +kernel, rfl, fun h => ⟨rfl, _, q1294, rfl⟩⟩)⟩
theorem fp_X22_9 : amFp RX22 9 8 1 (1, 152, 0) (am_kl 8) (.array .int) true := ⟨fd_X22_9, fun c hc C T n e => by
  obtain rfl : c = 11 := List.mem_singleton.mp hc
  exact (by cases e; exact ⟨⟨tyX22, tyX22_ok⟩, nmX22, by decide +kernel, rfl, fun h => ⟨rfl, _, q1296, rfl⟩⟩)⟩
theorem fp_X24_9 : amFp RX24 9 11 0 (1, 153, 0) [18] (.array .byte) true := ⟨fd_X24_9, fun c hc C T n e => by
  obtain rfl : c = 18 := List.mem_singleton.mp hc
  exact (by cases e; exact ⟨⟨tyX24, tyX24_ok⟩, nmX24, by decide +kernel, rfl, fun h => ⟨rfl, _, q1726, rfl⟩⟩)⟩
theorem fp_X25_9 : amFp RX25 9 11 0 (1, 154, 0) [19] (.array .short) true := ⟨fd_X25_9, fun c hc C T n e => by
  obtain rfl : c = 19 := List.mem_singleton.mp hc
  exact (by cases e; exact ⟨⟨tyX25, tyX25_ok⟩, nmX25, by decide +kernel, rfl, fun h => ⟨rfl, _, q1736, rfl⟩⟩)⟩
theorem fp_X26_9 : amFp RX26 9 11 0 (1, 155, 0) [20] (.array .int) true := ⟨fd_X26_9, fun c hc C T n e => by
  obtain rfl : c = 20 := List.mem_singleton.mp hc
  exact (by cases e; exact ⟨⟨tyX26, tyX26_ok⟩, nmX26, by decide +kernel, rfl, fun h => ⟨rfl, _, q1747, rfl⟩⟩)⟩
theorem fp_X27_9 : amFp RX27 9 11 0 (1, 156, 0) [21] (.array .float) true := ⟨fd_X27_9, fun c hc C T n e => by
  obtain rfl : c = 21 := List.mem_singleton.mp hc
  exact (by cases e; exact ⟨⟨tyX27, tyX27_ok⟩, nmX27, by decide +kernel, rfl, fun h => ⟨rfl, _, q1757, rfl⟩⟩)⟩
theorem fp_X3_101 : amFp RX3 101 1 34 (5, 85, 1) (am_kl 1) (.array .int) true := ⟨fd_X3_101, fun c hc C T n e => by
  obtain rfl : c = 1 := List.mem_singleton.mp hc
  exact (by cases e; exact ⟨⟨tyX3, tyX3_ok⟩, nmX3, by decide +kernel, rfl, fun h => ⟨rfl, _, q1975, rfl⟩⟩)⟩
theorem fp_X3_104 : amFp RX3 104 1 35 (5, 86, 1) (am_kl 1) (.array .int) true := ⟨fd_X3_104, fun c hc C T n e => by
  obtain rfl : c = 1 := List.mem_singleton.mp hc
  exact (by cases e; exact ⟨⟨tyX3, tyX3_ok⟩, nmX3, by decide +kernel, rfl, fun h => ⟨rfl, _, q1976, rfl⟩⟩)⟩
theorem fp_X3_107 : amFp RX3 107 1 36 (5, 87, 1) (am_kl 1) (.array .int) true := ⟨fd_X3_107, fun c hc C T n e => by
  obtain rfl : c = 1 := List.mem_singleton.mp hc
  exact (by cases e; exact ⟨⟨tyX3, tyX3_ok⟩, nmX3, by decide +kernel, rfl, fun h => ⟨rfl, _, q1977, rfl⟩⟩)⟩
theorem fp_X3_110 : amFp RX3 110 1 37 (5, 88, 1) (am_kl 1) (.array .int) true := ⟨fd_X3_110, fun c hc C T n e => by
  obtain rfl : c = 1 := List.mem_singleton.mp hc
  exact (by cases e; exact ⟨⟨tyX3, tyX3_ok⟩, nmX3, by decide +kernel, rfl, fun h => ⟨rfl, _, q1978, rfl⟩⟩)⟩
theorem fp_X3_113 : amFp RX3 113 1 38 (5, 89, 1) (am_kl 1) (.array .int) true := ⟨fd_X3_113, fun c hc C T n e => by
  obtain rfl : c = 1 := List.mem_singleton.mp hc
  exact (by cases e; exact ⟨⟨tyX3, tyX3_ok⟩, nmX3, by decide +kernel, rfl, fun h => ⟨rfl, _, q1979, rfl⟩⟩)⟩
theorem fp_X3_116 : amFp RX3 116 1 39 (5, 90, 1) (am_kl 1) (.array .int) true := ⟨fd_X3_116, fun c hc C T n e => by
  obtain rfl : c = 1 := List.mem_singleton.mp hc
  exact (by cases e; exact ⟨⟨tyX3, tyX3_ok⟩, nmX3, by decide +kernel, rfl, fun h => ⟨rfl, _, q1980, rfl⟩⟩)⟩
theorem fp_X3_119 : amFp RX3 119 1 40 (5, 91, 1) (am_kl 1) (.array .int) true := ⟨fd_X3_119, fun c hc C T n e => by
  obtain rfl : c = 1 := List.mem_singleton.mp hc
  exact (by cases e; exact ⟨⟨tyX3, tyX3_ok⟩, nmX3, by decide +kernel, rfl, fun h => ⟨rfl, _, q1981, rfl⟩⟩)⟩
theorem fp_X3_122 : amFp RX3 122 1 41 (5, 92, 1) (am_kl 1) (.array .int) true := ⟨fd_X3_122, fun c hc C T n e => by
  obtain rfl : c = 1 := List.mem_singleton.mp hc
  exact (by cases e; exact ⟨⟨tyX3, tyX3_ok⟩, nmX3, by decide +kernel, rfl, fun h => ⟨rfl, _, q1982, rfl⟩⟩)⟩
theorem fp_X3_125 : amFp RX3 125 1 42 (5, 93, 1) (am_kl 1) (.array .int) true := ⟨fd_X3_125, fun c hc C T n e => by
  obtain rfl : c = 1 := List.mem_singleton.mp hc
  exact (by cases e; exact ⟨⟨tyX3, tyX3_ok⟩, nmX3, by decide +kernel, rfl, fun h => ⟨rfl, _, q1983, rfl⟩⟩)⟩
theorem fp_X3_128 : amFp RX3 128 1 43 (5, 94, 1) (am_kl 1) (.array .int) true := ⟨fd_X3_128, fun c hc C T n e => by
  obtain rfl : c = 1 := List.mem_singleton.mp hc
  exact (by cases e; exact ⟨⟨tyX3, tyX3_ok⟩, nmX3, by decide +kernel, rfl, fun h => ⟨rfl, _, q1984, rfl⟩⟩)⟩
theorem fp_X3_13 : amFp RX3 13 1 3 (5, 56, 1) (am_kl 1) (.array .int) true := ⟨fd_X3_13, fun c hc C T n e => by
  obtain rfl : c = 1 := List.mem_singleton.mp hc
  exact (by cases e; exact ⟨⟨tyX3, tyX3_ok⟩, nmX3, by decide +kernel, rfl, fun h => ⟨rfl, _, q1944, rfl⟩⟩)⟩
theorem fp_X3_131 : amFp RX3 131 1 44 (5, 95, 1) (am_kl 1) (.array .int) true := ⟨fd_X3_131, fun c hc C T n e => by
  obtain rfl : c = 1 := List.mem_singleton.mp hc
  exact (by cases e; exact ⟨⟨tyX3, tyX3_ok⟩, nmX3, by decide +kernel, rfl, fun h => ⟨rfl, _, q1985, rfl⟩⟩)⟩
theorem fp_X3_134 : amFp RX3 134 1 45 (5, 96, 1) (am_kl 1) (.array .int) true := ⟨fd_X3_134, fun c hc C T n e => by
  obtain rfl : c = 1 := List.mem_singleton.mp hc
  exact (by cases e; exact ⟨⟨tyX3, tyX3_ok⟩, nmX3, by decide +kernel, rfl, fun h => ⟨rfl, _, q1986, rfl⟩⟩)⟩
theorem fp_X3_137 : amFp RX3 137 1 46 (5, 97, 1) (am_kl 1) (.array .int) true := ⟨fd_X3_137, fun c hc C T n e => by
  obtain rfl : c = 1 := List.mem_singleton.mp hc
  exact (by cases e; exact ⟨⟨tyX3, tyX3_ok⟩, nmX3, by decide +kernel, rfl, fun h => ⟨rfl, _, q1987, rfl⟩⟩)⟩
theorem fp_X3_140 : amFp RX3 140 1 47 (5, 98, 1) (am_kl 1) (.array .int) true := ⟨fd_X3_140, fun c hc C T n e => by
  obtain rfl : c = 1 := List.mem_singleton.mp hc
  exact (by cases e; exact ⟨⟨tyX3, tyX3_ok⟩, nmX3, by decide +kernel, rfl, fun h => ⟨rfl, _, q1988, rfl⟩⟩)⟩
theorem fp_X3_143 : amFp RX3 143 1 48 (5, 99, 1) (am_kl 1) (.array .int) true := ⟨fd_X3_143, fun c hc C T n e => by
  obtain rfl : c = 1 := List.mem_singleton.mp hc
  exact (by cases e; exact ⟨⟨tyX3, tyX3_ok⟩, nmX3, by decide +kernel, rfl, fun h => ⟨rfl, _, q1989, rfl⟩⟩)⟩
theorem fp_X3_146 : amFp RX3 146 1 49 (5, 100, 1) (am_kl 1) (.array .int) true := ⟨fd_X3_146, fun c hc C T n e => by
  obtain rfl : c = 1 := List.mem_singleton.mp hc
  exact (by cases e; exact ⟨⟨tyX3, tyX3_ok⟩, nmX3, by decide +kernel, rfl, fun h => ⟨rfl, _, q1990, rfl⟩⟩)⟩
theorem fp_X3_149 : amFp RX3 149 1 50 (5, 101, 1) (am_kl 1) (.array .int) true := ⟨fd_X3_149, fun c hc C T n e => by
  obtain rfl : c = 1 := List.mem_singleton.mp hc
  exact (by cases e; exact ⟨⟨tyX3, tyX3_ok⟩, nmX3, by decide +kernel, rfl, fun h => ⟨rfl, _, q1991, rfl⟩⟩)⟩
theorem fp_X3_152 : amFp RX3 152 1 51 (5, 102, 1) (am_kl 1) (.array .int) true := ⟨fd_X3_152, fun c hc C T n e => by
  obtain rfl : c = 1 := List.mem_singleton.mp hc
  exact (by cases e; exact ⟨⟨tyX3, tyX3_ok⟩, nmX3, by decide +kernel, rfl, fun h => ⟨rfl, _, q1992, rfl⟩⟩)⟩
theorem fp_X3_155 : amFp RX3 155 1 52 (5, 103, 1) (am_kl 1) (.array .int) true := ⟨fd_X3_155, fun c hc C T n e => by
  obtain rfl : c = 1 := List.mem_singleton.mp hc
  exact (by cases e; exact ⟨⟨tyX3, tyX3_ok⟩, nmX3, by decide +kernel, rfl, fun h => ⟨rfl, _, q1993, rfl⟩⟩)⟩
theorem fp_X3_158 : amFp RX3 158 1 53 (5, 104, 1) (am_kl 1) (.array .int) true := ⟨fd_X3_158, fun c hc C T n e => by
  obtain rfl : c = 1 := List.mem_singleton.mp hc
  exact (by cases e; exact ⟨⟨tyX3, tyX3_ok⟩, nmX3, by decide +kernel, rfl, fun h => ⟨rfl, _, q1994, rfl⟩⟩)⟩
theorem fp_X3_16 : amFp RX3 16 1 4 (5, 57, 1) (am_kl 1) (.array .int) true := ⟨fd_X3_16, fun c hc C T n e => by
  obtain rfl : c = 1 := List.mem_singleton.mp hc
  exact (by cases e; exact ⟨⟨tyX3, tyX3_ok⟩, nmX3, by decide +kernel, rfl, fun h => ⟨rfl, _, q1945, rfl⟩⟩)⟩
theorem fp_X3_161 : amFp RX3 161 1 54 (5, 105, 1) (am_kl 1) (.array .int) true := ⟨fd_X3_161, fun c hc C T n e => by
  obtain rfl : c = 1 := List.mem_singleton.mp hc
  exact (by cases e; exact ⟨⟨tyX3, tyX3_ok⟩, nmX3, by decide +kernel, rfl, fun h => ⟨rfl, _, q1995, rfl⟩⟩)⟩
theorem fp_X3_164 : amFp RX3 164 1 55 (5, 106, 1) (am_kl 1) (.array .boolean) true := ⟨fd_X3_164, fun c hc C T n e => by
  obtain rfl : c = 1 := List.mem_singleton.mp hc
  exact (by cases e; exact ⟨⟨tyX3, tyX3_ok⟩, nmX3, by decide +kernel, rfl, fun h => ⟨rfl, _, q1996, rfl⟩⟩)⟩
theorem fp_X3_167 : amFp RX3 167 1 59 (5, 107, 1) (am_kl 1) (.array .byte) true := ⟨fd_X3_167, fun c hc C T n e => by
  obtain rfl : c = 1 := List.mem_singleton.mp hc
  exact (by cases e; exact ⟨⟨tyX3, tyX3_ok⟩, nmX3, by decide +kernel, rfl, fun h => ⟨rfl, _, q2000, rfl⟩⟩)⟩
theorem fp_X3_171 : amFp RX3 171 1 60 (5, 107, 2) (am_kl 1) (.array .byte) true := ⟨fd_X3_171, fun c hc C T n e => by
  obtain rfl : c = 1 := List.mem_singleton.mp hc
  exact (by cases e; exact ⟨⟨tyX3, tyX3_ok⟩, nmX3, by decide +kernel, rfl, fun h => ⟨rfl, _, q2001, rfl⟩⟩)⟩
theorem fp_X3_174 : amFp RX3 174 1 61 (5, 107, 3) (am_kl 1) (.array .byte) true := ⟨fd_X3_174, fun c hc C T n e => by
  obtain rfl : c = 1 := List.mem_singleton.mp hc
  exact (by cases e; exact ⟨⟨tyX3, tyX3_ok⟩, nmX3, by decide +kernel, rfl, fun h => ⟨rfl, _, q2002, rfl⟩⟩)⟩
theorem fp_X3_177 : amFp RX3 177 1 62 (5, 107, 4) (am_kl 1) (.array .byte) true := ⟨fd_X3_177, fun c hc C T n e => by
  obtain rfl : c = 1 := List.mem_singleton.mp hc
  exact (by cases e; exact ⟨⟨tyX3, tyX3_ok⟩, nmX3, by decide +kernel, rfl, fun h => ⟨rfl, _, q2003, rfl⟩⟩)⟩
theorem fp_X3_180 : amFp RX3 180 1 63 (5, 108, 1) (am_kl 1) (.array .int) true := ⟨fd_X3_180, fun c hc C T n e => by
  obtain rfl : c = 1 := List.mem_singleton.mp hc
  exact (by cases e; exact ⟨⟨tyX3, tyX3_ok⟩, nmX3, by decide +kernel, rfl, fun h => ⟨rfl, _, q2004, rfl⟩⟩)⟩
theorem fp_X3_183 : amFp RX3 183 1 64 (5, 109, 1) (am_kl 1) (.array .int) true := ⟨fd_X3_183, fun c hc C T n e => by
  obtain rfl : c = 1 := List.mem_singleton.mp hc
  exact (by cases e; exact ⟨⟨tyX3, tyX3_ok⟩, nmX3, by decide +kernel, rfl, fun h => ⟨rfl, _, q2005, rfl⟩⟩)⟩
theorem fp_X3_186 : amFp RX3 186 1 65 (5, 110, 1) (am_kl 1) (.array .int) true := ⟨fd_X3_186, fun c hc C T n e => by
  obtain rfl : c = 1 := List.mem_singleton.mp hc
  exact (by cases e; exact ⟨⟨tyX3, tyX3_ok⟩, nmX3, by decide +kernel, rfl, fun h => ⟨rfl, _, q2006, rfl⟩⟩)⟩
theorem fp_X3_189 : amFp RX3 189 1 66 (5, 111, 1) (am_kl 1) (.array .int) true := ⟨fd_X3_189, fun c hc C T n e => by
  obtain rfl : c = 1 := List.mem_singleton.mp hc
  exact (by cases e; exact ⟨⟨tyX3, tyX3_ok⟩, nmX3, by decide +kernel, rfl, fun h => ⟨rfl, _, q2007, rfl⟩⟩)⟩
theorem fp_X3_19 : amFp RX3 19 1 5 (5, 58, 1) (am_kl 1) (.array .int) true := ⟨fd_X3_19, fun c hc C T n e => by
  obtain rfl : c = 1 := List.mem_singleton.mp hc
  exact (by cases e; exact ⟨⟨tyX3, tyX3_ok⟩, nmX3, by decide +kernel, rfl, fun h => ⟨rfl, _, q1946, rfl⟩⟩)⟩
theorem fp_X3_192 : amFp RX3 192 1 67 (5, 112, 1) (am_kl 1) (.array .int) true := ⟨fd_X3_192, fun c hc C T n e => by
  obtain rfl : c = 1 := List.mem_singleton.mp hc
  exact (by cases e; exact ⟨⟨tyX3, tyX3_ok⟩, nmX3, by decide +kernel, rfl, fun h => ⟨rfl, _, q2008, rfl⟩⟩)⟩
theorem fp_X3_195 : amFp RX3 195 1 68 (5, 113, 1) (am_kl 1) (.array .int) true := ⟨fd_X3_195, fun c hc C T n e => by
  obtain rfl : c = 1 := List.mem_singleton.mp hc
  exact (by cases e; exact ⟨⟨tyX3, tyX3_ok⟩, nmX3, by decide +kernel, rfl, fun h => ⟨rfl, _, q2009, rfl⟩⟩)⟩
theorem fp_X3_198 : amFp RX3 198 1 69 (5, 114, 1) (am_kl 1) (.array .int) true := ⟨fd_X3_198, fun c hc C T n e => by
  obtain rfl : c = 1 := List.mem_singleton.mp hc
  exact (by cases e; exact ⟨⟨tyX3, tyX3_ok⟩, nmX3, by decide +kernel, rfl, fun h => ⟨rfl, _, q2010, rfl⟩⟩)⟩
theorem fp_X3_201 : amFp RX3 201 1 73 (0, 0, 0) (am_kl 1) .int false := ⟨fd_X3_201, fun c hc C T n e => by
  obtain rfl : c = 1 := List.mem_singleton.mp hc
  exact (by cases e; exact ⟨⟨tyX3, tyX3_ok⟩, nmX3, by decide +kernel, rfl, fun h => by cases h⟩)⟩
theorem fp_X3_205 : amFp RX3 205 1 76 (1, 107, 0) (am_kl 1) (.array .byte) false := ⟨fd_X3_205, fun c hc C T n e => by
  obtain rfl : c = 1 := List.mem_singleton.mp hc
  exact (by cases e; exact ⟨⟨tyX3, tyX3_ok⟩, nmX3, by decide +kernel, rfl, fun h => by cases h⟩)⟩
theorem fp_X3_210 : amFp RX3 210 1 77 (1, 250, 0) (am_kl 1) (.object "java/lang/String") false := ⟨fd_X3_210, fun c hc C T n e => by
  obtain rfl : c = 1 := List.mem_singleton.mp hc
  exact (by cases e; exact ⟨⟨tyX3, tyX3_ok⟩, nmX3, by decide +kernel, rfl, fun h => by cases h⟩)⟩
theorem fp_X3_214 : amFp RX3 214 1 83 (5, 115, 1) (am_kl 1) (.array .int) true := ⟨fd_X3_214, fun c hc C T n e => by
  obtain rfl : c = 1 := List.mem_singleton.mp hc
  exact (by cases e; exact ⟨⟨tyX3, tyX3_ok⟩, nmX3, by decide +kernel, rfl, fun h => ⟨rfl, _, q2024, rfl⟩⟩)⟩
theorem fp_X3_217 : amFp RX3 217 1 84 (5, 116, 1) (am_kl 1) (.array .int) true := ⟨fd_X3_217, fun c hc C T n e => by
  obtain rfl : c = 1 := List.mem_singleton.mp hc
  exact (by cases e; exact ⟨⟨tyX3, tyX3_ok⟩, nmX3, by decide +kernel, rfl, fun h => ⟨rfl, _, q2025, rfl⟩⟩)⟩
theorem fp_X3_22 : amFp RX3 22 1 6 (5, 59, 1) (am_kl 1) (.array .int) true := ⟨fd_X3_22, fun c hc C T n e => by
  obtain rfl : c = 1 := List.mem_singleton.mp hc
  exact (by cases e; exact ⟨⟨tyX3, tyX3_ok⟩, nmX3, by decide +kernel, rfl, fun h => ⟨rfl, _, q1947, rfl⟩⟩)⟩
theorem fp_X3_220 : amFp RX3 220 1 85 (5, 117, 1) (am_kl 1) (.array .int) true := ⟨fd_X3_220, fun c hc C T n e => by
  obtain rfl : c = 1 := List.mem_singleton.mp hc
  exact (by cases e; exact ⟨⟨tyX3, tyX3_ok⟩, nmX3, by decide +kernel, rfl, fun h => ⟨rfl, _, q2026, rfl⟩⟩)⟩
theorem fp_X3_223 : amFp RX3 223 1 86 (5, 118, 1) (am_kl 1) (.array .int) true := ⟨fd_X3_223, fun c hc C T n e => by
  obtain rfl : c = 1 := List.mem_singleton.mp hc
  exact (by cases e; exact ⟨⟨tyX3, tyX3_ok⟩, nmX3, by decide +kernel, rfl, fun h => ⟨rfl, _, q2027, rfl⟩⟩)⟩
theorem fp_X3_226 : amFp RX3 226 1 87 (5, 119, 1) (am_kl 1) (.array .int) true := ⟨fd_X3_226, fun c hc C T n e => by
  obtain rfl : c = 1 := List.mem_singleton.mp hc
  exact (by cases e; exact ⟨⟨tyX3, tyX3_ok⟩, nmX3, by decide +kernel, rfl, fun h => ⟨rfl, _, q2028, rfl⟩⟩)⟩
theorem fp_X3_229 : amFp RX3 229 1 88 (5, 120, 1) (am_kl 1) (.array .int) true := ⟨fd_X3_229, fun c hc C T n e => by
  obtain rfl : c = 1 := List.mem_singleton.mp hc
  exact (by cases e; exact ⟨⟨tyX3, tyX3_ok⟩, nmX3, by decide +kernel, rfl, fun h => ⟨rfl, _, q2029, rfl⟩⟩)⟩
theorem fp_X3_232 : amFp RX3 232 1 89 (5, 121, 1) (am_kl 1) (.array .int) true := ⟨fd_X3_232, fun c hc C T n e => by
  obtain rfl : c = 1 := List.mem_singleton.mp hc
  exact (by cases e; exact ⟨⟨tyX3, tyX3_ok⟩, nmX3, by decide +kernel, rfl, fun h => ⟨rfl, _, q2030, rfl⟩⟩)⟩
theorem fp_X3_235 : amFp RX3 235 1 90 (5, 122, 1) (am_kl 1) (.array .int) true := ⟨fd_X3_235, fun c hc C T n e => by
  obtain rfl : c = 1 := List.mem_singleton.mp hc
  exact (by cases e; exact ⟨⟨tyX3, tyX3_ok⟩, nmX3, by decide +kernel, rfl, fun h => ⟨rfl, _, q2031, rfl⟩⟩)⟩
theorem fp_X3_238 : amFp RX3 238 1 91 (5, 123, 1) (am_kl 1) (.array .boolean) true := ⟨fd_X3_238, fun c hc C T n e => by
  obtain rfl : c = 1 := List.mem_singleton.mp hc
  exact (by cases e; exact ⟨⟨tyX3, tyX3_ok⟩, nmX3, by decide +kernel, rfl, fun h => ⟨rfl, _, q2032, rfl⟩⟩)⟩
theorem fp_X3_241 : amFp RX3 241 1 94 (5, 124, 1) (am_kl 1) (.array .int) true := ⟨fd_X3_241, fun c hc C T n e => by
  obtain rfl : c = 1 := List.mem_singleton.mp hc
  exact (by cases e; exact ⟨⟨tyX3, tyX3_ok⟩, nmX3, by decide +kernel, rfl, fun h => ⟨rfl, _, q2035, rfl⟩⟩)⟩
theorem fp_X3_244 : amFp RX3 244 1 95 (5, 125, 1) (am_kl 1) (.array .int) true := ⟨fd_X3_244, fun c hc C T n e => by
  obtain rfl : c = 1 := List.mem_singleton.mp hc
  exact (by cases e; exact ⟨⟨tyX3, tyX3_ok⟩, nmX3, by decide +kernel, rfl, fun h => ⟨rfl, _, q2036, rfl⟩⟩)⟩
theorem fp_X3_247 : amFp RX3 247 1 96 (5, 126, 1) (am_kl 1) (.array .int) true := ⟨fd_X3_247, fun c hc C T n e => by
  obtain rfl : c = 1 := List.mem_singleton.mp hc
  exact (by cases e; exact ⟨⟨tyX3, tyX3_ok⟩, nmX3, by decide +kernel, rfl, fun h => ⟨rfl, _, q2037, rfl⟩⟩)⟩
theorem fp_X3_25 : amFp RX3 25 1 7 (5, 60, 1) (am_kl 1) (.array .boolean) true := ⟨fd_X3_25, fun c hc C T n e => by
  obtain rfl : c = 1 := List.mem_singleton.mp hc
  exact (by cases e; exact ⟨⟨tyX3, tyX3_ok⟩, nmX3, by decide +kernel, rfl, fun h => ⟨rfl, _, q1948, rfl⟩⟩)⟩
theorem fp_X3_250 : amFp RX3 250 1 97 (5, 127, 1) (am_kl 1) (.array .int) true := ⟨fd_X3_250, fun c hc C T n e => by
  obtain rfl : c = 1 := List.mem_singleton.mp hc
  exact (by cases e; exact ⟨⟨tyX3, tyX3_ok⟩, nmX3, by decide +kernel, rfl, fun h => ⟨rfl, _, q2038, rfl⟩⟩)⟩
theorem fp_X3_253 : amFp RX3 253 1 98 (5, 128, 1) (am_kl 1) (.array .int) true := ⟨fd_X3_253, fun c hc C T n e => by
  obtain rfl : c = 1 := List.mem_singleton.mp hc
  exact (by cases e; exact ⟨⟨tyX3, tyX3_ok⟩, nmX3, by decide +kernel, rfl, fun h => ⟨rfl, _, q2039, rfl⟩⟩)⟩
theorem fp_X3_256 : amFp RX3 256 1 100 (5, 129, 1) (am_kl 1) (.array .int) true := ⟨fd_X3_256, fun c hc C T n e => by
  obtain rfl : c = 1 := List.mem_singleton.mp hc
  exact (by cases e; exact ⟨⟨tyX3, tyX3_ok⟩, nmX3, by decide +kernel, rfl, fun h => ⟨rfl, _, q2041, rfl⟩⟩)⟩
theorem fp_X3_259 : amFp RX3 259 1 101 (5, 130, 1) (am_kl 1) (.array .int) true := ⟨fd_X3_259, fun c hc C T n e => by
  obtain rfl : c = 1 := List.mem_singleton.mp hc
  exact (by cases e; exact ⟨⟨tyX3, tyX3_ok⟩, nmX3, by decide +kernel, rfl, fun h => ⟨rfl, _, q2042, rfl⟩⟩)⟩
theorem fp_X3_262 : amFp RX3 262 1 102 (5, 131, 1) (am_kl 1) (.array .int) true := ⟨fd_X3_262, fun c hc C T n e => by
  obtain rfl : c = 1 := List.mem_singleton.mp hc
  exact (by cases e; exact ⟨⟨tyX3, tyX3_ok⟩, nmX3, by decide +kernel, rfl, fun h => ⟨rfl, _, q2043, rfl⟩⟩)⟩
theorem fp_X3_265 : amFp RX3 265 1 103 (5, 132, 1) (am_kl 1) (.array .boolean) true := ⟨fd_X3_265, fun c hc C T n e => by
  obtain rfl : c = 1 := List.mem_singleton.mp hc
  exact (by cases e; exact ⟨⟨tyX3, tyX3_ok⟩, nmX3, by decide +kernel, rfl, fun h => ⟨rfl, _, q2044, rfl⟩⟩)⟩
theorem fp_X3_268 : amFp RX3 268 1 111 (5, 133, 1) (am_kl 1) (.array .int) true := ⟨fd_X3_268, fun c hc C T n e => by
  obtain rfl : c = 1 := List.mem_singleton.mp hc
  exact (by cases e; exact ⟨⟨tyX3, tyX3_ok⟩, nmX3, by decide +kernel, rfl, fun h => ⟨rfl, _, q2052, rfl⟩⟩)⟩
theorem fp_X3_271 : amFp RX3 271 1 112 (5, 134, 1) (am_kl 1) (.array .double) true := ⟨fd_X3_271, fun c hc C T n e => by
  obtain rfl : c = 1 := List.mem_singleton.mp hc
  exact (by cases e; exact ⟨⟨tyX3, tyX3_ok⟩, nmX3, by decide +kernel, rfl, fun h => ⟨rfl, _, q2053, rfl⟩⟩)⟩
theorem fp_X3_275 : amFp RX3 275 1 113 (5, 135, 1) (am_kl 1) (.array .double) true := ⟨fd_X3_275, fun c hc C T n e => by
  obtain rfl : c = 1 := List.mem_singleton.mp hc
  exact (by cases e; exact ⟨⟨tyX3, tyX3_ok⟩, nmX3, by decide +kernel, rfl, fun h => ⟨rfl, _, q2054, rfl⟩⟩)⟩
theorem fp_X3_278 : amFp RX3 278 1 114 (5, 136, 1) (am_kl 1) (.array .int) true := ⟨fd_X3_278, fun c hc C T n e => by
  obtain rfl : c = 1 := List.mem_singleton.mp hc
  exact (by cases e; exact ⟨⟨tyX3, tyX3_ok⟩, nmX3, by decide +kernel, rfl, fun h => ⟨rfl, _, q2055, rfl⟩⟩)⟩
theorem fp_X3_281 : amFp RX3 281 1 115 (5, 137, 1) (am_kl 1) (.array .boolean) true := ⟨fd_X3_281, fun c hc C T n e => by
  obtain rfl : c = 1 := List.mem_singleton.mp hc
  exact (by cases e; exact ⟨⟨tyX3, tyX3_ok⟩, nmX3, by decide +kernel, rfl, fun h => ⟨rfl, _, q2056, rfl⟩⟩)⟩
theorem fp_X3_284 : amFp RX3 284 1 117 (5, 138, 1) (am_kl 1) (.array .int) true := ⟨fd_X3_284, fun c hc C T n e => by
  obtain rfl : c = 1 := List.mem_singleton.mp hc
  exact (by cases e; exact ⟨⟨tyX3, tyX3_ok⟩, nmX3, by decide +kernel, rfl, fun h => ⟨rfl, _, q2058, rfl⟩⟩)⟩
theorem fp_X3_287 : amFp RX3 287 1 118 (5, 139, 1) (am_kl 1) (.array .int) true := ⟨fd_X3_287, fun c hc C T n e => by
  obtain rfl : c = 1 := List.mem_singleton.mp hc
  exact (by cases e; exact ⟨⟨tyX3, tyX3_ok⟩, nmX3, by decide +kernel, rfl, fun h => ⟨rfl, _, q2059, rfl⟩⟩)⟩
theorem fp_X3_29 : amFp RX3 29 1 8 (5, 61, 1) (am_kl 1) (.array .boolean) true := ⟨fd_X3_29, fun c hc C T n e => by
  obtain rfl : c = 1 := List.mem_singleton.mp hc
  exact (by cases e; exact ⟨⟨tyX3, tyX3_ok⟩, nmX3, by decide +kernel, rfl, fun h => ⟨rfl, _, q1949, rfl⟩⟩)⟩
theorem fp_X3_290 : amFp RX3 290 1 119 (5, 140, 1) (am_kl 1) (.array .int) true := ⟨fd_X3_290, fun c hc C T n e => by
  obtain rfl : c = 1 := List.mem_singleton.mp hc
  exact (by cases e; exact ⟨⟨tyX3, tyX3_ok⟩, nmX3, by decide +kernel, rfl, fun h => ⟨rfl, _, q2060, rfl⟩⟩)⟩
theorem fp_X3_293 : amFp RX3 293 1 120 (5, 141, 1) (am_kl 1) (.array .boolean) true := ⟨fd_X3_293, fun c hc C T n e => by
  obtain rfl : c = 1 := List.mem_singleton.mp hc
  exact (by cases e; exact ⟨⟨tyX3, tyX3_ok⟩, nmX3, by decide +kernel, rfl, fun h => ⟨rfl, _, q2061, rfl⟩⟩)⟩
theorem fp_X3_297 : amFp RX3 297 1 0 (0, 0, 0) (am_kl 1) .int false := ⟨fd_X3_297, fun c hc C T n e => by
  obtain rfl : c = 1 := List.mem_singleton.mp hc
  exact (by cases e; exact ⟨⟨tyX3, tyX3_ok⟩, nmX3, by decide +kernel, rfl, fun h => by cases h⟩)⟩
theorem fp_X3_300 : amFp RX3 300 1 9 (0, 0, 0) (am_kl 1) .int false := ⟨fd_X3_300, fun c hc C T n e => by
  obtain rfl : c = 1 := List.mem_singleton.mp hc
  exact (by cases e; exact ⟨⟨tyX3, tyX3_ok⟩, nmX3, by decide +kernel, rfl, fun h => by cases h⟩)⟩
theorem fp_X3_32 : amFp RX3 32 1 10 (5, 62, 1) (am_kl 1) (.array .int) true := ⟨fd_X3_32, fun c hc C T n e => by
  obtain rfl : c = 1 := List.mem_singleton.mp hc
  exact (by cases e; exact ⟨⟨tyX3, tyX3_ok⟩, nmX3, by decide +kernel, rfl, fun h => ⟨rfl, _, q1951, rfl⟩⟩)⟩
theorem fp_X3_331 : amFp RX3 331 1 31 (0, 0, 0) (am_kl 1) .int false := ⟨fd_X3_331, fun c hc C T n e => by
  obtain rfl : c = 1 := List.mem_singleton.mp hc
  exact (by cases e; exact ⟨⟨tyX3, tyX3_ok⟩, nmX3, by decide +kernel, rfl, fun h => by cases h⟩)⟩
theorem fp_X3_35 : amFp RX3 35 1 11 (5, 63, 1) (am_kl 1) (.array .int) true := ⟨fd_X3_35, fun c hc C T n e => by
  obtain rfl : c = 1 := List.mem_singleton.mp hc
  exact (by cases e; exact ⟨⟨tyX3, tyX3_ok⟩, nmX3, by decide +kernel, rfl, fun h => ⟨rfl, _, q1952, rfl⟩⟩)⟩
theorem fp_X3_366 : amFp RX3 366 1 58 (0, 0, 0) (am_kl 1) .int false := ⟨fd_X3_366, fun c hc C T n e => by
  obtain rfl : c = 1 := List.mem_singleton.mp hc
  exact (by cases e; exact ⟨⟨tyX3, tyX3_ok⟩, nmX3, by decide +kernel, rfl, fun h => by cases h⟩)⟩
theorem fp_X3_38 : amFp RX3 38 1 12 (5, 64, 1) (am_kl 1) (.array .int) true := ⟨fd_X3_38, fun c hc C T n e => by
  obtain rfl : c = 1 := List.mem_singleton.mp hc
  exact (by cases e; exact ⟨⟨tyX3, tyX3_ok⟩, nmX3, by decide +kernel, rfl, fun h => ⟨rfl, _, q1953, rfl⟩⟩)⟩
theorem fp_X3_386 : amFp RX3 386 1 56 (0, 0, 0) (am_kl 1) .int false := ⟨fd_X3_386, fun c hc C T n e => by
  obtain rfl : c = 1 := List.mem_singleton.mp hc
  exact (by cases e; exact ⟨⟨tyX3, tyX3_ok⟩, nmX3, by decide +kernel, rfl, fun h => by cases h⟩)⟩
theorem fp_X3_389 : amFp RX3 389 1 57 (0, 0, 0) (am_kl 1) .int false := ⟨fd_X3_389, fun c hc C T n e => by
  obtain rfl : c = 1 := List.mem_singleton.mp hc
  exact (by cases e; exact ⟨⟨tyX3, tyX3_ok⟩, nmX3, by decide +kernel, rfl, fun h => by cases h⟩)⟩
theorem fp_X3_395 : amFp RX3 395 1 1 (0, 0, 0) (am_kl 1) .int false := ⟨fd_X3_395, fun c hc C T n e => by
  obtain rfl : c = 1 := List.mem_singleton.mp hc
  exact (by cases e; exact ⟨⟨tyX3, tyX3_ok⟩, nmX3, by decide +kernel, rfl, fun h => by cases h⟩)⟩
theorem fp_X3_41 : amFp RX3 41 1 13 (5, 65, 1) (am_kl 1) (.array .int) true := ⟨fd_X3_41, fun c hc C T n e => by
  obtain rfl : c = 1 := List.mem_singleton.mp hc
  exact (by cases e; exact ⟨⟨tyX3, tyX3_ok⟩, nmX3, by decide +kernel, rfl, fun h => ⟨rfl, _, q1954, rfl⟩⟩)⟩
theorem fp_X3_414 : amFp RX3 414 1 70 (0, 0, 0) (am_kl 1) .int false := ⟨fd_X3_414, fun c hc C T n e => by
  obtain rfl : c = 1 := List.mem_singleton.mp hc
  exact (by cases e; exact ⟨⟨tyX3, tyX3_ok⟩, nmX3, by decide +kernel, rfl, fun h => by cases h⟩)⟩
theorem fp_X3_423 : amFp RX3 423 1 80 (0, 0, 0) (am_kl 1) .int false := ⟨fd_X3_423, fun c hc C T n e => by
  obtain rfl : c = 1 := List.mem_singleton.mp hc
  exact (by cases e; exact ⟨⟨tyX3, tyX3_ok⟩, nmX3, by decide +kernel, rfl, fun h => by cases h⟩)⟩
theorem fp_X3_426 : amFp RX3 426 1 79 (0, 0, 0) (am_kl 1) .int false := ⟨fd_X3_426, fun c hc C T n e => by
  obtain rfl : c = 1 := List.mem_singleton.mp hc
  exact (by cases e; exact ⟨⟨tyX3, tyX3_ok⟩, nmX3, by decide +kernel, rfl, fun h => by cases h⟩)⟩
theorem fp_X3_429 : amFp RX3 429 1 78 (0, 0, 0) (am_kl 1) .int false := ⟨fd_X3_429, fun c hc C T n e => by
  obtain rfl : c = 1 := List.mem_singleton.mp hc
  exact (by cases e; exact ⟨⟨tyX3, tyX3_ok⟩, nmX3, by decide +kernel, rfl, fun h => by cases h⟩)⟩
theorem fp_X3_432 : amFp RX3 432 1 81 (0, 0, 0) (am_kl 1) .int false := ⟨fd_X3_432, fun c hc C T n e => by
  obtain rfl : c = 1 := List.mem_singleton.mp hc
  exact (by cases e; exact ⟨⟨tyX3, tyX3_ok⟩, nmX3, by decide +kernel, rfl, fun h => by cases h⟩)⟩
theorem fp_X3_435 : amFp RX3 435 1 82 (0, 0, 0) (am_kl 1) .int false := ⟨fd_X3_435, fun c hc C T n e => by
  obtain rfl : c = 1 := List.mem_singleton.mp hc
  exact (by cases e; exact ⟨⟨tyX3, tyX3_ok⟩, nmX3, by decide +kernel, rfl, fun h => by cases h⟩)⟩
theorem fp_X3_44 : amFp RX3 44 1 14 (5, 66, 1) (am_kl 1) (.array .int) true := ⟨fd_X3_44, fun c hc C T n e => by
  obtain rfl : c = 1 := List.mem_singleton.mp hc
  exact (by cases e; exact ⟨⟨tyX3, tyX3_ok⟩, nmX3, by decide +kernel, rfl, fun h => ⟨rfl, _, q1955, rfl⟩⟩)⟩
theorem fp_X3_47 : amFp RX3 47 1 15 (5, 67, 1) (am_kl 1) (.array .int) true := ⟨fd_X3_47, fun c hc C T n e => by
  obtain rfl : c = 1 := List.mem_singleton.mp hc
  exact (by cases e; exact ⟨⟨tyX3, tyX3_ok⟩, nmX3, by decide +kernel, rfl, fun h => ⟨rfl, _, q1956, rfl⟩⟩)⟩
theorem fp_X3_494 : amFp RX3 494 1 75 (0, 0, 0) (am_kl 1) .int false := ⟨fd_X3_494, fun c hc C T n e => by
  obtain rfl : c = 1 := List.mem_singleton.mp hc
  exact (by cases e; exact ⟨⟨tyX3, tyX3_ok⟩, nmX3, by decide +kernel, rfl, fun h => by cases h⟩)⟩
theorem fp_X3_497 : amFp RX3 497 1 74 (0, 0, 0) (am_kl 1) .int false := ⟨fd_X3_497, fun c hc C T n e => by
  obtain rfl : c = 1 := List.mem_singleton.mp hc
  exact (by cases e; exact ⟨⟨tyX3, tyX3_ok⟩, nmX3, by decide +kernel, rfl, fun h => by cases h⟩)⟩
theorem fp_X3_50 : amFp RX3 50 1 16 (5, 68, 1) (am_kl 1) (.array .int) true := ⟨fd_X3_50, fun c hc C T n e => by
  obtain rfl : c = 1 := List.mem_singleton.mp hc
  exact (by cases e; exact ⟨⟨tyX3, tyX3_ok⟩, nmX3, by decide +kernel, rfl, fun h => ⟨rfl, _, q1957, rfl⟩⟩)⟩
theorem fp_X3_519 : amFp RX3 519 1 71 (0, 0, 0) (am_kl 1) .int false := ⟨fd_X3_519, fun c hc C T n e => by
  obtain rfl : c = 1 := List.mem_singleton.mp hc
  exact (by cases e; exact ⟨⟨tyX3, tyX3_ok⟩, nmX3, by decide +kernel, rfl, fun h => by cases h⟩)⟩
theorem fp_X3_522 : amFp RX3 522 1 72 (0, 0, 0) (am_kl 1) .int false := ⟨fd_X3_522, fun c hc C T n e => by
  obtain rfl : c = 1 := List.mem_singleton.mp hc
  exact (by cases e; exact ⟨⟨tyX3, tyX3_ok⟩, nmX3, by decide +kernel, rfl, fun h => by cases h⟩)⟩
theorem fp_X3_525 : amFp RX3 525 1 92 (0, 0, 0) (am_kl 1) .int false := ⟨fd_X3_525, fun c hc C T n e => by
  obtain rfl : c = 1 := List.mem_singleton.mp hc
  exact (by cases e; exact ⟨⟨tyX3, tyX3_ok⟩, nmX3, by decide +kernel, rfl, fun h => by cases h⟩)⟩
theorem fp_X3_53 : amFp RX3 53 1 17 (5, 69, 1) (am_kl 1) (.array .int) true := ⟨fd_X3_53, fun c hc C T n e => by
  obtain rfl : c = 1 := List.mem_singleton.mp hc
  exact (by cases e; exact ⟨⟨tyX3, tyX3_ok⟩, nmX3, by decide +kernel, rfl, fun h => ⟨rfl, _, q1958, rfl⟩⟩)⟩
theorem fp_X3_546 : amFp RX3 546 1 93 (0, 0, 0) (am_kl 1) .int false := ⟨fd_X3_546, fun c hc C T n e => by
  obtain rfl : c = 1 := List.mem_singleton.mp hc
  exact (by cases e; exact ⟨⟨tyX3, tyX3_ok⟩, nmX3, by decide +kernel, rfl, fun h => by cases h⟩)⟩
theorem fp_X3_56 : amFp RX3 56 1 18 (5, 70, 1) (am_kl 1) (.array .int) true := ⟨fd_X3_56, fun c hc C T n e => by
  obtain rfl : c = 1 := List.mem_singleton.mp hc
  exact (by cases e; exact ⟨⟨tyX3, tyX3_ok⟩, nmX3, by decide +kernel, rfl, fun h => ⟨rfl, _, q1959, rfl⟩⟩)⟩
theorem fp_X3_59 : amFp RX3 59 1 19 (5, 71, 1) (am_kl 1) (.array .int) true := ⟨fd_X3_59, fun c hc C T n e => by
  obtain rfl : c = 1 := List.mem_singleton.mp hc
  exact (by cases e; exact ⟨⟨tyX3, tyX3_ok⟩, nmX3, by decide +kernel, rfl, fun h => ⟨rfl, _, q1960, rfl⟩⟩)⟩
theorem fp_X3_596 : amFp RX3 596 1 99 (0, 0, 0) (am_kl 1) .int false := ⟨fd_X3_596, fun c hc C T n e => by
  obtain rfl : c = 1 := List.mem_singleton.mp hc
  exact (by cases e; exact ⟨⟨tyX3, tyX3_ok⟩, nmX3, by decide +kernel, rfl, fun h => by cases h⟩)⟩
theorem fp_X3_611 : amFp RX3 611 1 104 (0, 0, 0) (am_kl 1) .int false := ⟨fd_X3_611, fun c hc C T n e => by
  obtain rfl : c = 1 := List.mem_singleton.mp hc
  exact (by cases e; exact ⟨⟨tyX3, tyX3_ok⟩, nmX3, by decide +kernel, rfl, fun h => by cases h⟩)⟩
theorem fp_X3_614 : amFp RX3 614 1 105 (0, 0, 0) (am_kl 1) .int false := ⟨fd_X3_614, fun c hc C T n e => by
  obtain rfl : c = 1 := List.mem_singleton.mp hc
  exact (by cases e; exact ⟨⟨tyX3, tyX3_ok⟩, nmX3, by decide +kernel, rfl, fun h => by cases h⟩)⟩
theorem fp_X3_617 : amFp RX3 617 1 108 (0, 0, 0) (am_kl 1) .int false := ⟨fd_X3_617, fun c hc C T n e => by
  obtain rfl : c = 1 := List.mem_singleton.mp hc
  exact (by cases e; exact ⟨⟨tyX3, tyX3_ok⟩, nmX3, by decide +kernel, rfl, fun h => by cases h⟩)⟩
theorem fp_X3_62 : amFp RX3 62 1 20 (5, 72, 1) (am_kl 1) (.array .int) true := ⟨fd_X3_62, fun c hc C T n e => by
  obtain rfl : c = 1 := List.mem_singleton.mp hc
  exact (by cases e; exact ⟨⟨tyX3, tyX3_ok⟩, nmX3, by decide +kernel, rfl, fun h => ⟨rfl, _, q1961, rfl⟩⟩)⟩
theorem fp_X3_620 : amFp RX3 620 1 106 (0, 0, 0) (am_kl 1) .int false := ⟨fd_X3_620, fun c hc C T n e => by
  obtain rfl : c = 1 := List.mem_singleton.mp hc
  exact (by cases e; exact ⟨⟨tyX3, tyX3_ok⟩, nmX3, by decide +kernel, rfl, fun h => by cases h⟩)⟩
theorem fp_X3_623 : amFp RX3 623 1 107 (0, 0, 0) (am_kl 1) .int false := ⟨fd_X3_623, fun c hc C T n e => by
  obtain rfl : c = 1 := List.mem_singleton.mp hc
  exact (by cases e; exact ⟨⟨tyX3, tyX3_ok⟩, nmX3, by decide +kernel, rfl, fun h => by cases h⟩)⟩
theorem fp_X3_639 : amFp RX3 639 1 109 (0, 0, 0) (am_kl 1) .int false := ⟨fd_X3_639, fun c hc C T n e => by
  obtain rfl : c = 1 := List.mem_singleton.mp hc
  exact (by cases e; exact ⟨⟨tyX3, tyX3_ok⟩, nmX3, by decide +kernel, rfl, fun h => by cases h⟩)⟩
theorem fp_X3_642 : amFp RX3 642 1 110 (0, 0, 0) (am_kl 1) .int false := ⟨fd_X3_642, fun c hc C T n e => by
  obtain rfl : c = 1 := List.mem_singleton.mp hc
  exact (by cases e; exact ⟨⟨tyX3, tyX3_ok⟩, nmX3, by decide +kernel, rfl, fun h => by cases h⟩)⟩
theorem fp_X3_648 : amFp RX3 648 1 116 (0, 0, 0) (am_kl 1) .int false := ⟨fd_X3_648, fun c hc C T n e => by
  obtain rfl : c = 1 := List.mem_singleton.mp hc
  exact (by cases e; exact ⟨⟨tyX3, tyX3_ok⟩, nmX3, by decide +kernel, rfl, fun h => by cases h⟩)⟩
theorem fp_X3_65 : amFp RX3 65 1 21 (5, 73, 1) (am_kl 1) (.array .boolean) true := ⟨fd_X3_65, fun c hc C T n e => by
  obtain rfl : c = 1 := List.mem_singleton.mp hc
  exact (by cases e; exact ⟨⟨tyX3, tyX3_ok⟩, nmX3, by decide +kernel, rfl, fun h => ⟨rfl, _, q1962, rfl⟩⟩)⟩
theorem fp_X3_68 : amFp RX3 68 1 22 (5, 74, 1) (am_kl 1) (.array .int) true := ⟨fd_X3_68, fun c hc C T n e => by
  obtain rfl : c = 1 := List.mem_singleton.mp hc
  exact (by cases e; exact ⟨⟨tyX3, tyX3_ok⟩, nmX3, by decide +kernel, rfl, fun h => ⟨rfl, _, q1963, rfl⟩⟩)⟩
theorem fp_X3_71 : amFp RX3 71 1 23 (5, 75, 1) (am_kl 1) (.array .int) true := ⟨fd_X3_71, fun c hc C T n e => by
  obtain rfl : c = 1 := List.mem_singleton.mp hc
  exact (by cases e; exact ⟨⟨tyX3, tyX3_ok⟩, nmX3, by decide +kernel, rfl, fun h => ⟨rfl, _, q1964, rfl⟩⟩)⟩
theorem fp_X3_74 : amFp RX3 74 1 24 (5, 76, 1) (am_kl 1) (.array .int) true := ⟨fd_X3_74, fun c hc C T n e => by
  obtain rfl : c = 1 := List.mem_singleton.mp hc
  exact (by cases e; exact ⟨⟨tyX3, tyX3_ok⟩, nmX3, by decide +kernel, rfl, fun h => ⟨rfl, _, q1965, rfl⟩⟩)⟩
theorem fp_X3_77 : amFp RX3 77 1 25 (5, 77, 1) (am_kl 1) (.array .int) true := ⟨fd_X3_77, fun c hc C T n e => by
  obtain rfl : c = 1 := List.mem_singleton.mp hc
  exact (by cases e; exact ⟨⟨tyX3, tyX3_ok⟩, nmX3, by decide +kernel, rfl, fun h => ⟨rfl, _, q1966, rfl⟩⟩)⟩
theorem fp_X3_80 : amFp RX3 80 1 26 (5, 78, 1) (am_kl 1) (.array .int) true := ⟨fd_X3_80, fun c hc C T n e => by
  obtain rfl : c = 1 := List.mem_singleton.mp hc
  exact (by cases e; exact ⟨⟨tyX3, tyX3_ok⟩, nmX3, by decide +kernel, rfl, fun h => ⟨rfl, _, q1967, rfl⟩⟩)⟩
theorem fp_X3_83 : amFp RX3 83 1 27 (5, 79, 1) (am_kl 1) (.array .int) true := ⟨fd_X3_83, fun c hc C T n e => by
  obtain rfl : c = 1 := List.mem_singleton.mp hc
  exact (by cases e; exact ⟨⟨tyX3, tyX3_ok⟩, nmX3, by decide +kernel, rfl, fun h => ⟨rfl, _, q1968, rfl⟩⟩)⟩
theorem fp_X3_86 : amFp RX3 86 1 28 (5, 80, 1) (am_kl 1) (.array .int) true := ⟨fd_X3_86, fun c hc C T n e => by
  obtain rfl : c = 1 := List.mem_singleton.mp hc
  exact (by cases e; exact ⟨⟨tyX3, tyX3_ok⟩, nmX3, by decide +kernel, rfl, fun h => ⟨rfl, _, q1969, rfl⟩⟩)⟩
theorem fp_X3_89 : amFp RX3 89 1 29 (5, 81, 1) (am_kl 1) (.array .int) true := ⟨fd_X3_89, fun c hc C T n e => by
  obtain rfl : c = 1 := List.mem_singleton.mp hc
  exact (by cases e; exact ⟨⟨tyX3, tyX3_ok⟩, nmX3, by decide +kernel, rfl, fun h => ⟨rfl, _, q1970, rfl⟩⟩)⟩
theorem fp_X3_9 : amFp RX3 9 1 2 (5, 55, 1) (am_kl 1) (.array .int) true := ⟨fd_X3_9, fun c hc C T n e => by
  obtain rfl : c = 1 := List.mem_singleton.mp hc
  exact (by cases e; exact ⟨⟨tyX3, tyX3_ok⟩, nmX3, by decide +kernel, rfl, fun h => ⟨rfl, _, q1943, rfl⟩⟩)⟩
theorem fp_X3_92 : amFp RX3 92 1 30 (5, 82, 1) (am_kl 1) (.array .boolean) true := ⟨fd_X3_92, fun c hc C T n e => by
  obtain rfl : c = 1 := List.mem_singleton.mp hc
  exact (by cases e; exact ⟨⟨tyX3, tyX3_ok⟩, nmX3, by decide +kernel, rfl, fun h => ⟨rfl, _, q1971, rfl⟩⟩)⟩
theorem fp_X3_95 : amFp RX3 95 1 32 (5, 83, 1) (am_kl 1) (.array .int) true := ⟨fd_X3_95, fun c hc C T n e => by
  obtain rfl : c = 1 := List.mem_singleton.mp hc
  exact (by cases e; exact ⟨⟨tyX3, tyX3_ok⟩, nmX3, by decide +kernel, rfl, fun h => ⟨rfl, _, q1973, rfl⟩⟩)⟩
theorem fp_X3_98 : amFp RX3 98 1 33 (5, 84, 1) (am_kl 1) (.array .int) true := ⟨fd_X3_98, fun c hc C T n e => by
  obtain rfl : c = 1 := List.mem_singleton.mp hc
  exact (by cases e; exact ⟨⟨tyX3, tyX3_ok⟩, nmX3, by decide +kernel, rfl, fun h => ⟨rfl, _, q1974, rfl⟩⟩)⟩
theorem fp_X4_15 : amFp RX4 15 2 0 (0, 0, 0) (am_kl 2) .int true := ⟨fd_X4_15, fun c hc C T n e => by
  obtain rfl : c = 2 := List.mem_singleton.mp hc
  exact (by cases e; exact ⟨⟨tyX4, tyX4_ok⟩, nmX4, by decide +kernel, rfl, fun h => ⟨rfl, _, q479, rfl⟩⟩)⟩
theorem fp_X4_19 : amFp RX4 19 2 1 (0, 0, 0) (am_kl 2) .int true := ⟨fd_X4_19, fun c hc C T n e => by
  obtain rfl : c = 2 := List.mem_singleton.mp hc
  exact (by cases e; exact ⟨⟨tyX4, tyX4_ok⟩, nmX4, by decide +kernel, rfl, fun h => ⟨rfl, _, q481, rfl⟩⟩)⟩
theorem fp_X4_22 : amFp RX4 22 2 2 (0, 0, 0) (am_kl 2) .int true := ⟨fd_X4_22, fun c hc C T n e => by
  obtain rfl : c = 2 := List.mem_singleton.mp hc
  exact (by cases e; exact ⟨⟨tyX4, tyX4_ok⟩, nmX4, by decide +kernel, rfl, fun h => ⟨rfl, _, q483, rfl⟩⟩)⟩
theorem fp_X4_9 : amFp RX4 9 2 3 (2, 142, 0) (am_kl 2) (.array .int) true := ⟨fd_X4_9, fun c hc C T n e => by
  obtain rfl : c = 2 := List.mem_singleton.mp hc
  exact (by cases e; exact ⟨⟨tyX4, tyX4_ok⟩, nmX4, by decide +kernel, rfl, fun h => ⟨rfl, _, q485, rfl⟩⟩)⟩
theorem fp_X5_15 : amFp RX5 15 3 12 (2, 143, 0) (am_kl 3) (.array .int) true := ⟨fd_X5_15, fun c hc C T n e => by
  obtain rfl : c = 3 := List.mem_singleton.mp hc
  exact (by cases e; exact ⟨⟨tyX5, tyX5_ok⟩, nmX5, by decide +kernel, rfl, fun h => ⟨rfl, _, q612, rfl⟩⟩)⟩
theorem fp_X5_19 : amFp RX5 19 3 13 (2, 144, 1) (am_kl 3) (.array .int) true := ⟨fd_X5_19, fun c hc C T n e => by
  obtain rfl : c = 3 := List.mem_singleton.mp hc
  exact (by cases e; exact ⟨⟨tyX5, tyX5_ok⟩, nmX5, by decide +kernel, rfl, fun h => ⟨rfl, _, q614, rfl⟩⟩)⟩
theorem fp_X5_25 : amFp RX5 25 3 14 (3, 4, 2) (am_kl 3) (.object "CityBrigade$Blaze") true := ⟨fd_X5_25, fun c hc C T n e => by
  obtain rfl : c = 3 := List.mem_singleton.mp hc
  exact (by cases e; exact ⟨⟨tyX5, tyX5_ok⟩, nmX5, by decide +kernel, rfl, fun h => ⟨rfl, _, q616, rfl⟩⟩)⟩
theorem fp_X5_29 : amFp RX5 29 3 15 (4, 4, 3) (am_kl 3) (.object "CityBrigade$Blaze") true := ⟨fd_X5_29, fun c hc C T n e => by
  obtain rfl : c = 3 := List.mem_singleton.mp hc
  exact (by cases e; exact ⟨⟨tyX5, tyX5_ok⟩, nmX5, by decide +kernel, rfl, fun h => ⟨rfl, _, q618, rfl⟩⟩)⟩
theorem fp_X5_32 : amFp RX5 32 3 0 (0, 0, 0) (am_kl 3) .int true := ⟨fd_X5_32, fun c hc C T n e => by
  obtain rfl : c = 3 := List.mem_singleton.mp hc
  exact (by cases e; exact ⟨⟨tyX5, tyX5_ok⟩, nmX5, by decide +kernel, rfl, fun h => ⟨rfl, _, q594, rfl⟩⟩)⟩
theorem fp_X5_35 : amFp RX5 35 3 1 (0, 0, 0) (am_kl 3) .int true := ⟨fd_X5_35, fun c hc C T n e => by
  obtain rfl : c = 3 := List.mem_singleton.mp hc
  exact (by cases e; exact ⟨⟨tyX5, tyX5_ok⟩, nmX5, by decide +kernel, rfl, fun h => ⟨rfl, _, q596, rfl⟩⟩)⟩
theorem fp_X5_38 : amFp RX5 38 3 2 (0, 0, 0) (am_kl 3) .int true := ⟨fd_X5_38, fun c hc C T n e => by
  obtain rfl : c = 3 := List.mem_singleton.mp hc
  exact (by cases e; exact ⟨⟨tyX5, tyX5_ok⟩, nmX5, by decide +kernel, rfl, fun h => ⟨rfl, _, q598, rfl⟩⟩)⟩
theorem fp_X5_41 : amFp RX5 41 3 3 (0, 0, 0) (am_kl 3) .int true := ⟨fd_X5_41, fun c hc C T n e => by
  obtain rfl : c = 3 := List.mem_singleton.mp hc
  exact (by cases e; exact ⟨⟨tyX5, tyX5_ok⟩, nmX5, by decide +kernel, rfl, fun h => ⟨rfl, _, q600, rfl⟩⟩)⟩
theorem fp_X5_44 : amFp RX5 44 3 4 (0, 0, 0) (am_kl 3) .int true := ⟨fd_X5_44, fun c hc C T n e => by
  obtain rfl : c = 3 := List.mem_singleton.mp hc
  exact (by cases e; exact ⟨⟨tyX5, tyX5_ok⟩, nmX5, by decide +kernel, rfl, fun h => ⟨rfl, _, q602, rfl⟩⟩)⟩
theorem fp_X5_9 : amFp RX5 9 3 7 (0, 0, 0) (am_kl 3) .int false := ⟨fd_X5_9, fun c hc C T n e => by
  obtain rfl : c = 3 := List.mem_singleton.mp hc
  exact (by cases e; exact ⟨⟨tyX5, tyX5_ok⟩, nmX5, by decide +kernel, rfl, fun h => by cases h⟩)⟩
theorem fp_X6_15 : amFp RX6 15 4 1 (2, 146, 1) (am_kl 4) (.array .int) true := ⟨fd_X6_15, fun c hc C T n e => by
  obtain rfl : c = 4 := List.mem_singleton.mp hc
  exact (by cases e; exact ⟨⟨tyX6, tyX6_ok⟩, nmX6, by decide +kernel, rfl, fun h => ⟨rfl, _, q564, rfl⟩⟩)⟩
theorem fp_X6_18 : amFp RX6 18 4 2 (2, 147, 2) (am_kl 4) (.array .int) true := ⟨fd_X6_18, fun c hc C T n e => by
  obtain rfl : c = 4 := List.mem_singleton.mp hc
  exact (by cases e; exact ⟨⟨tyX6, tyX6_ok⟩, nmX6, by decide +kernel, rfl, fun h => ⟨rfl, _, q567, rfl⟩⟩)⟩
theorem fp_X6_21 : amFp RX6 21 4 3 (2, 148, 3) (am_kl 4) (.array .int) true := ⟨fd_X6_21, fun c hc C T n e => by
  obtain rfl : c = 4 := List.mem_singleton.mp hc
  exact (by cases e; exact ⟨⟨tyX6, tyX6_ok⟩, nmX6, by decide +kernel, rfl, fun h => ⟨rfl, _, q569, rfl⟩⟩)⟩
theorem fp_X6_24 : amFp RX6 24 4 4 (2, 149, 4) (am_kl 4) (.array .boolean) true := ⟨fd_X6_24, fun c hc C T n e => by
  obtain rfl : c = 4 := List.mem_singleton.mp hc
  exact (by cases e; exact ⟨⟨tyX6, tyX6_ok⟩, nmX6, by decide +kernel, rfl, fun h => ⟨rfl, _, q572, rfl⟩⟩)⟩
theorem fp_X6_28 : amFp RX6 28 4 5 (2, 150, 5) (am_kl 4) (.array .boolean) true := ⟨fd_X6_28, fun c hc C T n e => by
  obtain rfl : c = 4 := List.mem_singleton.mp hc
  exact (by cases e; exact ⟨⟨tyX6, tyX6_ok⟩, nmX6, by decide +kernel, rfl, fun h => ⟨rfl, _, q575, rfl⟩⟩)⟩
theorem fp_X6_31 : amFp RX6 31 4 6 (2, 151, 6) (am_kl 4) (.array .int) true := ⟨fd_X6_31, fun c hc C T n e => by
  obtain rfl : c = 4 := List.mem_singleton.mp hc
  exact (by cases e; exact ⟨⟨tyX6, tyX6_ok⟩, nmX6, by decide +kernel, rfl, fun h => ⟨rfl, _, q577, rfl⟩⟩)⟩
theorem fp_X6_9 : amFp RX6 9 4 0 (2, 145, 0) (am_kl 4) (.array .int) true := ⟨fd_X6_9, fun c hc C T n e => by
  obtain rfl : c = 4 := List.mem_singleton.mp hc
  exact (by cases e; exact ⟨⟨tyX6, tyX6_ok⟩, nmX6, by decide +kernel, rfl, fun h => ⟨rfl, _, q561, rfl⟩⟩)⟩
theorem fp_X7_13 : amFp RX7 13 5 1 (0, 0, 0) (am_kl 5) .int true := ⟨fd_X7_13, fun c hc C T n e => by
  obtain rfl : c = 5 := List.mem_singleton.mp hc
  exact (by cases e; exact ⟨⟨tyX7, tyX7_ok⟩, nmX7, by decide +kernel, rfl, fun h => ⟨rfl, _, q758, rfl⟩⟩)⟩
theorem fp_X7_7 : amFp RX7 7 5 0 (0, 0, 0) (am_kl 5) .int true := ⟨fd_X7_7, fun c hc C T n e => by
  obtain rfl : c = 5 := List.mem_singleton.mp hc
  exact (by cases e; exact ⟨⟨tyX7, tyX7_ok⟩, nmX7, by decide +kernel, rfl, fun h => ⟨rfl, _, q756, rfl⟩⟩)⟩
theorem fp_X8_15 : amFp RX8 15 6 7 (0, 0, 0) (am_kl 6) .int false := ⟨fd_X8_15, fun c hc C T n e => by
  rcases am_mem4 hc with rfl | rfl | rfl | rfl
  · exact (by cases e; exact ⟨⟨tyX9, tyX9_ok⟩, nmX9, by decide +kernel, rfl, fun h => by cases h⟩)
  · exact (by cases e; exact ⟨⟨tyX10, tyX10_ok⟩, nmX10, by decide +kernel, rfl, fun h => by cases h⟩)
  · exact (by cases e; exact ⟨⟨tyX11, tyX11_ok⟩, nmX11, by decide +kernel, rfl, fun h => by cases h⟩)
  · exact (by cases e; exact ⟨⟨tyX12, tyX12_ok⟩, nmX12, by decide +kernel, rfl, fun h => by cases h⟩)⟩
theorem fp_X8_18 : amFp RX8 18 6 8 (0, 0, 0) (am_kl 6) .int false := ⟨fd_X8_18, fun c hc C T n e => by
  rcases am_mem4 hc with rfl | rfl | rfl | rfl
  · exact (by cases e; exact ⟨⟨tyX9, tyX9_ok⟩, nmX9, by decide +kernel, rfl, fun h => by cases h⟩)
  · exact (by cases e; exact ⟨⟨tyX10, tyX10_ok⟩, nmX10, by decide +kernel, rfl, fun h => by cases h⟩)
  · exact (by cases e; exact ⟨⟨tyX11, tyX11_ok⟩, nmX11, by decide +kernel, rfl, fun h => by cases h⟩)
  · exact (by cases e; exact ⟨⟨tyX12, tyX12_ok⟩, nmX12, by decide +kernel, rfl, fun h => by cases h⟩)⟩
theorem fp_X8_21 : amFp RX8 21 6 9 (0, 0, 0) (am_kl 6) .int false := ⟨fd_X8_21, fun c hc C T n e => by
  rcases am_mem4 hc with rfl | rfl | rfl | rfl
  · exact (by cases e; exact ⟨⟨tyX9, tyX9_ok⟩, nmX9, by decide +kernel, rfl, fun h => by cases h⟩)
  · exact (by cases e; exact ⟨⟨tyX10, tyX10_ok⟩, nmX10, by decide +kernel, rfl, fun h => by cases h⟩)
  · exact (by cases e; exact ⟨⟨tyX11, tyX11_ok⟩, nmX11, by decide +kernel, rfl, fun h => by cases h⟩)
  · exact (by cases e; exact ⟨⟨tyX12, tyX12_ok⟩, nmX12, by decide +kernel, rfl, fun h => by cases h⟩)⟩
theorem fp_X8_24 : amFp RX8 24 6 13 (0, 0, 0) (am_kl 6) .int false := ⟨fd_X8_24, fun c hc C T n e => by
  rcases am_mem4 hc with rfl | rfl | rfl | rfl
  · exact (by cases e; exact ⟨⟨tyX9, tyX9_ok⟩, nmX9, by decide +kernel, rfl, fun h => by cases h⟩)
  · exact (by cases e; exact ⟨⟨tyX10, tyX10_ok⟩, nmX10, by decide +kernel, rfl, fun h => by cases h⟩)
  · exact (by cases e; exact ⟨⟨tyX11, tyX11_ok⟩, nmX11, by decide +kernel, rfl, fun h => by cases h⟩)
  · exact (by cases e; exact ⟨⟨tyX12, tyX12_ok⟩, nmX12, by decide +kernel, rfl, fun h => by cases h⟩)⟩
theorem fp_X8_27 : amFp RX8 27 6 0 (0, 0, 0) (am_kl 6) .int true := ⟨fd_X8_27, fun c hc C T n e => by
  rcases am_mem4 hc with rfl | rfl | rfl | rfl
  · exact (by cases e; exact ⟨⟨tyX9, tyX9_ok⟩, nmX9, by decide +kernel, rfl, fun h => ⟨rfl, _, q784, rfl⟩⟩)
  · exact (by cases e; exact ⟨⟨tyX10, tyX10_ok⟩, nmX10, by decide +kernel, rfl, fun h => ⟨rfl, _, q784, rfl⟩⟩)
  · exact (by cases e; exact ⟨⟨tyX11, tyX11_ok⟩, nmX11, by decide +kernel, rfl, fun h => ⟨rfl, _, q784, rfl⟩⟩)
  · exact (by cases e; exact ⟨⟨tyX12, tyX12_ok⟩, nmX12, by decide +kernel, rfl, fun h => ⟨rfl, _, q784, rfl⟩⟩)⟩
theorem fp_X8_30 : amFp RX8 30 6 1 (0, 0, 0) (am_kl 6) .int true := ⟨fd_X8_30, fun c hc C T n e => by
  rcases am_mem4 hc with rfl | rfl | rfl | rfl
  · exact (by cases e; exact ⟨⟨tyX9, tyX9_ok⟩, nmX9, by decide +kernel, rfl, fun h => ⟨rfl, _, q786, rfl⟩⟩)
  · exact (by cases e; exact ⟨⟨tyX10, tyX10_ok⟩, nmX10, by decide +kernel, rfl, fun h => ⟨rfl, _, q786, rfl⟩⟩)
  · exact (by cases e; exact ⟨⟨tyX11, tyX11_ok⟩, nmX11, by decide +kernel, rfl, fun h => ⟨rfl, _, q786, rfl⟩⟩)
  · exact (by cases e; exact ⟨⟨tyX12, tyX12_ok⟩, nmX12, by decide +kernel, rfl, fun h => ⟨rfl, _, q786, rfl⟩⟩)⟩
theorem fp_X8_33 : amFp RX8 33 6 4 (0, 0, 0) (am_kl 6) .boolean true := ⟨fd_X8_33, fun c hc C T n e => by
  rcases am_mem4 hc with rfl | rfl | rfl | rfl
  · exact (by cases e; exact ⟨⟨tyX9, tyX9_ok⟩, nmX9, by decide +kernel, rfl, fun h => ⟨rfl, _, q791, rfl⟩⟩)
  · exact (by cases e; exact ⟨⟨tyX10, tyX10_ok⟩, nmX10, by decide +kernel, rfl, fun h => ⟨rfl, _, q791, rfl⟩⟩)
  · exact (by cases e; exact ⟨⟨tyX11, tyX11_ok⟩, nmX11, by decide +kernel, rfl, fun h => ⟨rfl, _, q791, rfl⟩⟩)
  · exact (by cases e; exact ⟨⟨tyX12, tyX12_ok⟩, nmX12, by decide +kernel, rfl, fun h => ⟨rfl, _, q791, rfl⟩⟩)⟩
theorem fp_X8_37 : amFp RX8 37 6 2 (0, 0, 0) (am_kl 6) .int true := ⟨fd_X8_37, fun c hc C T n e => by
  rcases am_mem4 hc with rfl | rfl | rfl | rfl
  · exact (by cases e; exact ⟨⟨tyX9, tyX9_ok⟩, nmX9, by decide +kernel, rfl, fun h => ⟨rfl, _, q788, rfl⟩⟩)
  · exact (by cases e; exact ⟨⟨tyX10, tyX10_ok⟩, nmX10, by decide +kernel, rfl, fun h => ⟨rfl, _, q788, rfl⟩⟩)
  · exact (by cases e; exact ⟨⟨tyX11, tyX11_ok⟩, nmX11, by decide +kernel, rfl, fun h => ⟨rfl, _, q788, rfl⟩⟩)
  · exact (by cases e; exact ⟨⟨tyX12, tyX12_ok⟩, nmX12, by decide +kernel, rfl, fun h => ⟨rfl, _, q788, rfl⟩⟩)⟩
theorem fp_X8_40 : amFp RX8 40 6 3 (0, 0, 0) (am_kl 6) .int true := ⟨fd_X8_40, fun c hc C T n e => by
  rcases am_mem4 hc with rfl | rfl | rfl | rfl
  · exact (by cases e; exact ⟨⟨tyX9, tyX9_ok⟩, nmX9, by decide +kernel, rfl, fun h => ⟨rfl, _, q789, rfl⟩⟩)
  · exact (by cases e; exact ⟨⟨tyX10, tyX10_ok⟩, nmX10, by decide +kernel, rfl, fun h => ⟨rfl, _, q789, rfl⟩⟩)
  · exact (by cases e; exact ⟨⟨tyX11, tyX11_ok⟩, nmX11, by decide +kernel, rfl, fun h => ⟨rfl, _, q789, rfl⟩⟩)
  · exact (by cases e; exact ⟨⟨tyX12, tyX12_ok⟩, nmX12, by decide +kernel, rfl, fun h => ⟨rfl, _, q789, rfl⟩⟩)⟩
theorem fp_X8_43 : amFp RX8 43 6 6 (0, 0, 0) (am_kl 6) .int false := ⟨fd_X8_43, fun c hc C T n e => by
  rcases am_mem4 hc with rfl | rfl | rfl | rfl
  · exact (by cases e; exact ⟨⟨tyX9, tyX9_ok⟩, nmX9, by decide +kernel, rfl, fun h => by cases h⟩)
  · exact (by cases e; exact ⟨⟨tyX10, tyX10_ok⟩, nmX10, by decide +kernel, rfl, fun h => by cases h⟩)
  · exact (by cases e; exact ⟨⟨tyX11, tyX11_ok⟩, nmX11, by decide +kernel, rfl, fun h => by cases h⟩)
  · exact (by cases e; exact ⟨⟨tyX12, tyX12_ok⟩, nmX12, by decide +kernel, rfl, fun h => by cases h⟩)⟩
theorem fp_X8_52 : amFp RX8 52 6 10 (0, 0, 0) (am_kl 6) .int false := ⟨fd_X8_52, fun c hc C T n e => by
  rcases am_mem4 hc with rfl | rfl | rfl | rfl
  · exact (by cases e; exact ⟨⟨tyX9, tyX9_ok⟩, nmX9, by decide +kernel, rfl, fun h => by cases h⟩)
  · exact (by cases e; exact ⟨⟨tyX10, tyX10_ok⟩, nmX10, by decide +kernel, rfl, fun h => by cases h⟩)
  · exact (by cases e; exact ⟨⟨tyX11, tyX11_ok⟩, nmX11, by decide +kernel, rfl, fun h => by cases h⟩)
  · exact (by cases e; exact ⟨⟨tyX12, tyX12_ok⟩, nmX12, by decide +kernel, rfl, fun h => by cases h⟩)⟩
theorem fp_X8_9 : amFp RX8 9 6 5 (0, 0, 0) (am_kl 6) .int false := ⟨fd_X8_9, fun c hc C T n e => by
  rcases am_mem4 hc with rfl | rfl | rfl | rfl
  · exact (by cases e; exact ⟨⟨tyX9, tyX9_ok⟩, nmX9, by decide +kernel, rfl, fun h => by cases h⟩)
  · exact (by cases e; exact ⟨⟨tyX10, tyX10_ok⟩, nmX10, by decide +kernel, rfl, fun h => by cases h⟩)
  · exact (by cases e; exact ⟨⟨tyX11, tyX11_ok⟩, nmX11, by decide +kernel, rfl, fun h => by cases h⟩)
  · exact (by cases e; exact ⟨⟨tyX12, tyX12_ok⟩, nmX12, by decide +kernel, rfl, fun h => by cases h⟩)⟩
theorem fp_X9_13 : amFp RX9 13 6 17 (0, 0, 0) [6, 7] .int false := ⟨fd_X9_13, fun c hc C T n e => by
  rcases am_mem2 hc with rfl | rfl
  · exact (by cases e; exact ⟨⟨tyX9, tyX9_ok⟩, nmX9, by decide +kernel, rfl, fun h => by cases h⟩)
  · exact (by cases e; exact ⟨⟨tyX10, tyX10_ok⟩, nmX10, by decide +kernel, rfl, fun h => by cases h⟩)⟩
theorem fp_X9_7 : amFp RX9 7 6 16 (0, 0, 0) [6, 7] .int false := ⟨fd_X9_7, fun c hc C T n e => by
  rcases am_mem2 hc with rfl | rfl
  · exact (by cases e; exact ⟨⟨tyX9, tyX9_ok⟩, nmX9, by decide +kernel, rfl, fun h => by cases h⟩)
  · exact (by cases e; exact ⟨⟨tyX10, tyX10_ok⟩, nmX10, by decide +kernel, rfl, fun h => by cases h⟩)⟩
theorem ar_20 : amAr 20 2 (.object "CityBrigade$Street") := ⟨by decide, by decide, by decide⟩
theorem ar_21 : amAr 21 1 .boolean := ⟨by decide, by decide, by decide⟩
theorem ar_22 : amAr 22 3 (.array .boolean) := ⟨by decide, by decide, by decide⟩
theorem ar_23 : amAr 23 1 .int := ⟨by decide, by decide, by decide⟩
theorem ar_24 : amAr 24 2 (.object "CityBrigade$House") := ⟨by decide, by decide, by decide⟩
theorem ar_25 : amAr 25 1 .int := ⟨by decide, by decide, by decide⟩
theorem ar_26 : amAr 26 1 .int := ⟨by decide, by decide, by decide⟩
theorem ar_27 : amAr 27 2 (.object "CityBrigade$Head") := ⟨by decide, by decide, by decide⟩
theorem ar_28 : amAr 28 2 (.object "CityBrigade$Crew") := ⟨by decide, by decide, by decide⟩
theorem ar_29 : amAr 29 1 .int := ⟨by decide, by decide, by decide⟩
theorem ar_30 : amAr 30 1 .byte := ⟨by decide, by decide, by decide⟩
theorem ar_31 : amAr 31 2 (.object "CityBrigade$Clause") := ⟨by decide, by decide, by decide⟩
theorem ar_32 : amAr 32 2 (.object "CityBrigade$Call") := ⟨by decide, by decide, by decide⟩
theorem ar_33 : amAr 33 1 .int := ⟨by decide, by decide, by decide⟩
theorem ar_34 : amAr 34 1 .int := ⟨by decide, by decide, by decide⟩
theorem ar_35 : amAr 35 2 (.object "CityBrigade$Clause") := ⟨by decide, by decide, by decide⟩
theorem ar_36 : amAr 36 1 .int := ⟨by decide, by decide, by decide⟩
theorem ar_37 : amAr 37 1 .int := ⟨by decide, by decide, by decide⟩
theorem ar_38 : amAr 38 1 .int := ⟨by decide, by decide, by decide⟩
theorem ar_39 : amAr 39 1 .int := ⟨by decide, by decide, by decide⟩
theorem ar_40 : amAr 40 1 .int := ⟨by decide, by decide, by decide⟩
theorem ar_41 : amAr 41 1 .int := ⟨by decide, by decide, by decide⟩
theorem ar_42 : amAr 42 1 .int := ⟨by decide, by decide, by decide⟩
theorem ar_43 : amAr 43 1 .int := ⟨by decide, by decide, by decide⟩
theorem ar_44 : amAr 44 1 .int := ⟨by decide, by decide, by decide⟩
theorem ar_45 : amAr 45 1 .int := ⟨by decide, by decide, by decide⟩
theorem ar_46 : amAr 46 1 .int := ⟨by decide, by decide, by decide⟩
theorem ar_47 : amAr 47 3 (.array .int) := ⟨by decide, by decide, by decide⟩
theorem ar_48 : amAr 48 1 .int := ⟨by decide, by decide, by decide⟩
theorem ar_49 : amAr 49 3 (.array .int) := ⟨by decide, by decide, by decide⟩
theorem ar_50 : amAr 50 1 .int := ⟨by decide, by decide, by decide⟩
theorem ar_51 : amAr 51 1 .int := ⟨by decide, by decide, by decide⟩
theorem ar_52 : amAr 52 1 .int := ⟨by decide, by decide, by decide⟩
theorem ar_53 : amAr 53 2 (.object "CityBrigade$Row") := ⟨by decide, by decide, by decide⟩
theorem ar_54 : amAr 54 1 .int := ⟨by decide, by decide, by decide⟩
theorem ar_55 : amAr 55 1 .int := ⟨by decide, by decide, by decide⟩
theorem ar_56 : amAr 56 1 .int := ⟨by decide, by decide, by decide⟩
theorem ar_57 : amAr 57 1 .int := ⟨by decide, by decide, by decide⟩
theorem ar_58 : amAr 58 1 .int := ⟨by decide, by decide, by decide⟩
theorem ar_59 : amAr 59 1 .int := ⟨by decide, by decide, by decide⟩
theorem ar_60 : amAr 60 1 .boolean := ⟨by decide, by decide, by decide⟩
theorem ar_61 : amAr 61 1 .boolean := ⟨by decide, by decide, by decide⟩
theorem ar_62 : amAr 62 1 .int := ⟨by decide, by decide, by decide⟩
theorem ar_63 : amAr 63 1 .int := ⟨by decide, by decide, by decide⟩
theorem ar_64 : amAr 64 1 .int := ⟨by decide, by decide, by decide⟩
theorem ar_65 : amAr 65 1 .int := ⟨by decide, by decide, by decide⟩
theorem ar_66 : amAr 66 1 .int := ⟨by decide, by decide, by decide⟩
theorem ar_67 : amAr 67 1 .int := ⟨by decide, by decide, by decide⟩
theorem ar_68 : amAr 68 1 .int := ⟨by decide, by decide, by decide⟩
theorem ar_69 : amAr 69 1 .int := ⟨by decide, by decide, by decide⟩
theorem ar_70 : amAr 70 1 .int := ⟨by decide, by decide, by decide⟩
theorem ar_71 : amAr 71 1 .int := ⟨by decide, by decide, by decide⟩
theorem ar_72 : amAr 72 1 .int := ⟨by decide, by decide, by decide⟩
theorem ar_73 : amAr 73 1 .boolean := ⟨by decide, by decide, by decide⟩
theorem ar_74 : amAr 74 1 .int := ⟨by decide, by decide, by decide⟩
theorem ar_75 : amAr 75 1 .int := ⟨by decide, by decide, by decide⟩
theorem ar_76 : amAr 76 1 .int := ⟨by decide, by decide, by decide⟩
theorem ar_77 : amAr 77 1 .int := ⟨by decide, by decide, by decide⟩
theorem ar_78 : amAr 78 1 .int := ⟨by decide, by decide, by decide⟩
theorem ar_79 : amAr 79 1 .int := ⟨by decide, by decide, by decide⟩
theorem ar_80 : amAr 80 1 .int := ⟨by decide, by decide, by decide⟩
theorem ar_81 : amAr 81 1 .int := ⟨by decide, by decide, by decide⟩
theorem ar_82 : amAr 82 1 .boolean := ⟨by decide, by decide, by decide⟩
theorem ar_83 : amAr 83 1 .int := ⟨by decide, by decide, by decide⟩
theorem ar_84 : amAr 84 1 .int := ⟨by decide, by decide, by decide⟩
theorem ar_85 : amAr 85 1 .int := ⟨by decide, by decide, by decide⟩
theorem ar_86 : amAr 86 1 .int := ⟨by decide, by decide, by decide⟩
theorem ar_87 : amAr 87 1 .int := ⟨by decide, by decide, by decide⟩
theorem ar_88 : amAr 88 1 .int := ⟨by decide, by decide, by decide⟩
theorem ar_89 : amAr 89 1 .int := ⟨by decide, by decide, by decide⟩
theorem ar_90 : amAr 90 1 .int := ⟨by decide, by decide, by decide⟩
theorem ar_91 : amAr 91 1 .int := ⟨by decide, by decide, by decide⟩
theorem ar_92 : amAr 92 1 .int := ⟨by decide, by decide, by decide⟩
theorem ar_93 : amAr 93 1 .int := ⟨by decide, by decide, by decide⟩
theorem ar_94 : amAr 94 1 .int := ⟨by decide, by decide, by decide⟩
theorem ar_95 : amAr 95 1 .int := ⟨by decide, by decide, by decide⟩
theorem ar_96 : amAr 96 1 .int := ⟨by decide, by decide, by decide⟩
theorem ar_97 : amAr 97 1 .int := ⟨by decide, by decide, by decide⟩
theorem ar_98 : amAr 98 1 .int := ⟨by decide, by decide, by decide⟩
theorem ar_99 : amAr 99 1 .int := ⟨by decide, by decide, by decide⟩
theorem ar_100 : amAr 100 1 .int := ⟨by decide, by decide, by decide⟩
theorem ar_101 : amAr 101 1 .int := ⟨by decide, by decide, by decide⟩
theorem ar_102 : amAr 102 1 .int := ⟨by decide, by decide, by decide⟩
theorem ar_103 : amAr 103 1 .int := ⟨by decide, by decide, by decide⟩
theorem ar_104 : amAr 104 1 .int := ⟨by decide, by decide, by decide⟩
theorem ar_105 : amAr 105 1 .int := ⟨by decide, by decide, by decide⟩
theorem ar_106 : amAr 106 1 .boolean := ⟨by decide, by decide, by decide⟩
theorem ar_107 : amAr 107 1 .byte := ⟨by decide, by decide, by decide⟩
theorem ar_108 : amAr 108 1 .int := ⟨by decide, by decide, by decide⟩
theorem ar_109 : amAr 109 1 .int := ⟨by decide, by decide, by decide⟩
theorem ar_110 : amAr 110 1 .int := ⟨by decide, by decide, by decide⟩
theorem ar_111 : amAr 111 1 .int := ⟨by decide, by decide, by decide⟩
theorem ar_112 : amAr 112 1 .int := ⟨by decide, by decide, by decide⟩
theorem ar_113 : amAr 113 1 .int := ⟨by decide, by decide, by decide⟩
theorem ar_114 : amAr 114 1 .int := ⟨by decide, by decide, by decide⟩
theorem ar_115 : amAr 115 1 .int := ⟨by decide, by decide, by decide⟩
theorem ar_116 : amAr 116 1 .int := ⟨by decide, by decide, by decide⟩
theorem ar_117 : amAr 117 1 .int := ⟨by decide, by decide, by decide⟩
theorem ar_118 : amAr 118 1 .int := ⟨by decide, by decide, by decide⟩
theorem ar_119 : amAr 119 1 .int := ⟨by decide, by decide, by decide⟩
theorem ar_120 : amAr 120 1 .int := ⟨by decide, by decide, by decide⟩
theorem ar_121 : amAr 121 1 .int := ⟨by decide, by decide, by decide⟩
theorem ar_122 : amAr 122 1 .int := ⟨by decide, by decide, by decide⟩
theorem ar_123 : amAr 123 1 .boolean := ⟨by decide, by decide, by decide⟩
theorem ar_124 : amAr 124 1 .int := ⟨by decide, by decide, by decide⟩
theorem ar_125 : amAr 125 1 .int := ⟨by decide, by decide, by decide⟩
theorem ar_126 : amAr 126 1 .int := ⟨by decide, by decide, by decide⟩
theorem ar_127 : amAr 127 1 .int := ⟨by decide, by decide, by decide⟩
theorem ar_128 : amAr 128 1 .int := ⟨by decide, by decide, by decide⟩
theorem ar_129 : amAr 129 1 .int := ⟨by decide, by decide, by decide⟩
theorem ar_130 : amAr 130 1 .int := ⟨by decide, by decide, by decide⟩
theorem ar_131 : amAr 131 1 .int := ⟨by decide, by decide, by decide⟩
theorem ar_132 : amAr 132 1 .boolean := ⟨by decide, by decide, by decide⟩
theorem ar_133 : amAr 133 1 .int := ⟨by decide, by decide, by decide⟩
theorem ar_134 : amAr 134 5 .double := ⟨by decide, by decide, by decide⟩
theorem ar_135 : amAr 135 5 .double := ⟨by decide, by decide, by decide⟩
theorem ar_136 : amAr 136 1 .int := ⟨by decide, by decide, by decide⟩
theorem ar_137 : amAr 137 1 .boolean := ⟨by decide, by decide, by decide⟩
theorem ar_138 : amAr 138 1 .int := ⟨by decide, by decide, by decide⟩
theorem ar_139 : amAr 139 1 .int := ⟨by decide, by decide, by decide⟩
theorem ar_140 : amAr 140 1 .int := ⟨by decide, by decide, by decide⟩
theorem ar_141 : amAr 141 1 .boolean := ⟨by decide, by decide, by decide⟩
theorem ar_142 : amAr 142 1 .int := ⟨by decide, by decide, by decide⟩
theorem ar_143 : amAr 143 1 .int := ⟨by decide, by decide, by decide⟩
theorem ar_144 : amAr 144 1 .int := ⟨by decide, by decide, by decide⟩
theorem ar_145 : amAr 145 1 .int := ⟨by decide, by decide, by decide⟩
theorem ar_146 : amAr 146 1 .int := ⟨by decide, by decide, by decide⟩
theorem ar_147 : amAr 147 1 .int := ⟨by decide, by decide, by decide⟩
theorem ar_148 : amAr 148 1 .int := ⟨by decide, by decide, by decide⟩
theorem ar_149 : amAr 149 1 .boolean := ⟨by decide, by decide, by decide⟩
theorem ar_150 : amAr 150 1 .boolean := ⟨by decide, by decide, by decide⟩
theorem ar_151 : amAr 151 1 .int := ⟨by decide, by decide, by decide⟩
theorem ar_152 : amAr 152 1 .int := ⟨by decide, by decide, by decide⟩
theorem ar_153 : amAr 153 1 .byte := ⟨by decide, by decide, by decide⟩
theorem ar_154 : amAr 154 1 .short := ⟨by decide, by decide, by decide⟩
theorem ar_155 : amAr 155 1 .int := ⟨by decide, by decide, by decide⟩
theorem ar_156 : amAr 156 4 .float := ⟨by decide, by decide, by decide⟩
theorem el_20 : amEl 20 "CityBrigade$Street" := ⟨by decide, by decide, fun c hc => by
  obtain rfl : c = 2 := List.mem_singleton.mp hc
  exact ⟨RX4, TX4, 5, rfl, Or.inl rfl⟩⟩
theorem el_24 : amEl 24 "CityBrigade$House" := ⟨by decide, by decide, fun c hc => by
  obtain rfl : c = 3 := List.mem_singleton.mp hc
  exact ⟨RX5, TX5, 16, rfl, Or.inl rfl⟩⟩
theorem el_27 : amEl 27 "CityBrigade$Head" := ⟨by decide, by decide, fun c hc => by
  obtain rfl : c = 5 := List.mem_singleton.mp hc
  exact ⟨RX7, TX7, 2, rfl, Or.inl rfl⟩⟩
theorem el_28 : amEl 28 "CityBrigade$Crew" := ⟨by decide, by decide, fun c hc => by
  rcases am_mem4 hc with rfl | rfl | rfl | rfl
  · exact ⟨RX9, TX9, 18, rfl, Or.inr q2875⟩
  · exact ⟨RX10, TX10, 19, rfl, Or.inr q2876⟩
  · exact ⟨RX11, TX11, 17, rfl, Or.inr q2877⟩
  · exact ⟨RX12, TX12, 16, rfl, Or.inr q2878⟩⟩
theorem el_31 : amEl 31 "CityBrigade$Clause" := ⟨by decide, by decide, fun c hc => by
  obtain rfl : c = 11 := List.mem_singleton.mp hc
  exact ⟨RX22, TX22, 4, rfl, Or.inl rfl⟩⟩
theorem el_32 : amEl 32 "CityBrigade$Call" := ⟨by decide, by decide, fun c hc => by
  obtain rfl : c = 10 := List.mem_singleton.mp hc
  exact ⟨RX13, TX13, 10, rfl, Or.inl rfl⟩⟩
theorem el_35 : amEl 35 "CityBrigade$Clause" := ⟨by decide, by decide, fun c hc => by
  obtain rfl : c = 11 := List.mem_singleton.mp hc
  exact ⟨RX22, TX22, 4, rfl, Or.inl rfl⟩⟩
theorem el_53 : amEl 53 "CityBrigade$Row" := ⟨by decide, by decide, fun c hc => by
  rcases am_mem4 hc with rfl | rfl | rfl | rfl
  · exact ⟨RX24, TX24, 1, rfl, Or.inr q2879⟩
  · exact ⟨RX25, TX25, 1, rfl, Or.inr q2880⟩
  · exact ⟨RX26, TX26, 1, rfl, Or.inr q2881⟩
  · exact ⟨RX27, TX27, 1, rfl, Or.inr q2882⟩⟩
theorem nw_X1_13 : amNw RX1 13 2 2 5 := ⟨by decide, by decide, by decide, RX4, TX4, tyX4, rfl, in_X4, tyX4_ok, q209, q474, q164, by decide +kernel, by decide⟩
theorem nw_X1_28 : amNw RX1 28 3 3 16 := ⟨by decide, by decide, by decide, RX5, TX5, tyX5, rfl, in_X5, tyX5_ok, q213, q550, q167, by decide +kernel, by decide⟩
theorem nw_X1_368 : amNw RX1 368 6 6 18 := ⟨by decide, by decide, by decide, RX9, TX9, tyX9, rfl, in_X9, tyX9_ok, q773, q774, q171, by decide +kernel, by decide⟩
theorem nw_X1_373 : amNw RX1 373 6 7 19 := ⟨by decide, by decide, by decide, RX10, TX10, tyX10, rfl, in_X10, tyX10_ok, q849, q850, q172, by decide +kernel, by decide⟩
theorem nw_X1_376 : amNw RX1 376 6 8 17 := ⟨by decide, by decide, by decide, RX11, TX11, tyX11, rfl, in_X11, tyX11_ok, q877, q878, q173, by decide +kernel, by decide⟩
theorem nw_X1_379 : amNw RX1 379 6 9 16 := ⟨by decide, by decide, by decide, RX12, TX12, tyX12, rfl, in_X12, tyX12_ok, q904, q905, q174, by decide +kernel, by decide⟩
theorem nw_X1_40 : amNw RX1 40 5 5 2 := ⟨by decide, by decide, by decide, RX7, TX7, tyX7, rfl, in_X7, tyX7_ok, q215, q751, q169, by decide +kernel, by decide⟩
theorem nw_X1_505 : amNw RX1 505 9 13 1 := ⟨by decide, by decide, by decide, RX17, TX17, tyX17, rfl, in_X17, tyX17_ok, q1203, q1204, q186, by decide +kernel, by decide⟩
theorem nw_X1_509 : amNw RX1 509 9 12 1 := ⟨by decide, by decide, by decide, RX18, TX18, tyX18, rfl, in_X18, tyX18_ok, q1216, q1217, q187, by decide +kernel, by decide⟩
theorem nw_X1_518 : amNw RX1 518 9 14 3 := ⟨by decide, by decide, by decide, RX19, TX19, tyX19, rfl, in_X19, tyX19_ok, q1233, q1234, q188, by decide +kernel, by decide⟩
theorem nw_X1_530 : amNw RX1 530 10 16 1 := ⟨by decide, by decide, by decide, RX15, TX15, tyX15, rfl, in_X15, tyX15_ok, q1084, q1085, q184, by decide +kernel, by decide⟩
theorem nw_X1_538 : amNw RX1 538 10 15 3 := ⟨by decide, by decide, by decide, RX20, TX20, tyX20, rfl, in_X20, tyX20_ok, q1249, q1250, q189, by decide +kernel, by decide⟩
theorem nw_X1_541 : amNw RX1 541 10 17 3 := ⟨by decide, by decide, by decide, RX21, TX21, tyX21, rfl, in_X21, tyX21_ok, q1265, q1266, q190, by decide +kernel, by decide⟩
theorem nw_X1_66 : amNw RX1 66 8 11 4 := ⟨by decide, by decide, by decide, RX22, TX22, tyX22, rfl, in_X22, tyX22_ok, q280, q1289, q191, by decide +kernel, by decide⟩
theorem nw_X1_72 : amNw RX1 72 7 10 10 := ⟨by decide, by decide, by decide, RX13, TX13, tyX13, rfl, in_X13, tyX13_ok, q282, q1410, q177, by decide +kernel, by decide⟩
theorem nw_X1_829 : amNw RX1 829 11 18 1 := ⟨by decide, by decide, by decide, RX24, TX24, tyX24, rfl, in_X24, tyX24_ok, q1717, q1718, q194, by decide +kernel, by decide⟩
theorem nw_X1_832 : amNw RX1 832 11 19 1 := ⟨by decide, by decide, by decide, RX25, TX25, tyX25, rfl, in_X25, tyX25_ok, q1730, q1731, q195, by decide +kernel, by decide⟩
theorem nw_X1_835 : amNw RX1 835 11 20 1 := ⟨by decide, by decide, by decide, RX26, TX26, tyX26, rfl, in_X26, tyX26_ok, q1741, q1742, q196, by decide +kernel, by decide⟩
theorem nw_X1_838 : amNw RX1 838 11 21 1 := ⟨by decide, by decide, by decide, RX27, TX27, tyX27, rfl, in_X27, tyX27_ok, q1751, q1752, q197, by decide +kernel, by decide⟩
theorem nw_X5_22 : amNw RX5 22 4 4 7 := ⟨by decide, by decide, by decide, RX6, TX6, tyX6, rfl, in_X6, tyX6_ok, q555, q556, q168, by decide +kernel, by decide⟩
theorem ci_Gives : amCk "CityBrigade$Gives" 6 [6, 7] true := ⟨by decide, by decide, fun c hc => by
  rcases am_mem4 hc with rfl | rfl | rfl | rfl
  · exact ⟨RX9, TX9, 18, rfl, fun _ => Or.inr q1028, fun _ h => absurd (by decide) h⟩
  · exact ⟨RX10, TX10, 19, rfl, fun _ => Or.inr q1034, fun _ h => absurd (by decide) h⟩
  · exact ⟨RX11, TX11, 17, rfl, fun h => absurd h (by decide), fun _ _ => by decide⟩
  · exact ⟨RX12, TX12, 16, rfl, fun h => absurd h (by decide), fun _ _ => by decide⟩⟩
theorem ci_X11 : amCk "CityBrigade$Ladder" 6 [8] true := ⟨by decide, by decide, fun c hc => by
  rcases am_mem4 hc with rfl | rfl | rfl | rfl
  · exact ⟨RX9, TX9, 18, rfl, fun h => absurd h (by decide), fun _ _ => by decide⟩
  · exact ⟨RX10, TX10, 19, rfl, fun h => absurd h (by decide), fun _ _ => by decide⟩
  · exact ⟨RX11, TX11, 17, rfl, fun _ => Or.inl rfl, fun _ h => absurd (by decide) h⟩
  · exact ⟨RX12, TX12, 16, rfl, fun h => absurd h (by decide), fun _ _ => by decide⟩⟩
theorem ci_X12 : amCk "CityBrigade$Chief" 6 [9] true := ⟨by decide, by decide, fun c hc => by
  rcases am_mem4 hc with rfl | rfl | rfl | rfl
  · exact ⟨RX9, TX9, 18, rfl, fun h => absurd h (by decide), fun _ _ => by decide⟩
  · exact ⟨RX10, TX10, 19, rfl, fun h => absurd h (by decide), fun _ _ => by decide⟩
  · exact ⟨RX11, TX11, 17, rfl, fun h => absurd h (by decide), fun _ _ => by decide⟩
  · exact ⟨RX12, TX12, 16, rfl, fun _ => Or.inl rfl, fun _ h => absurd (by decide) h⟩⟩
theorem ck_Gives : amCk "CityBrigade$Gives" 6 [6, 7] false := ⟨by decide, by decide, fun c hc => by
  rcases am_mem4 hc with rfl | rfl | rfl | rfl
  · exact ⟨RX9, TX9, 18, rfl, fun _ => Or.inr q1028, fun _ h => absurd (by decide) h⟩
  · exact ⟨RX10, TX10, 19, rfl, fun _ => Or.inr q1034, fun _ h => absurd (by decide) h⟩
  · exact ⟨RX11, TX11, 17, rfl, fun h => absurd h (by decide), fun h => by cases h⟩
  · exact ⟨RX12, TX12, 16, rfl, fun h => absurd h (by decide), fun h => by cases h⟩⟩
theorem ck_X11 : amCk "CityBrigade$Ladder" 6 [8] false := ⟨by decide, by decide, fun c hc => by
  rcases am_mem4 hc with rfl | rfl | rfl | rfl
  · exact ⟨RX9, TX9, 18, rfl, fun h => absurd h (by decide), fun h => by cases h⟩
  · exact ⟨RX10, TX10, 19, rfl, fun h => absurd h (by decide), fun h => by cases h⟩
  · exact ⟨RX11, TX11, 17, rfl, fun _ => Or.inl rfl, fun _ h => absurd (by decide) h⟩
  · exact ⟨RX12, TX12, 16, rfl, fun h => absurd h (by decide), fun h => by cases h⟩⟩
theorem ck_X24 : amCk "CityBrigade$Bytes" 11 [18] false := ⟨by decide, by decide, fun c hc => by
  rcases am_mem4 hc with rfl | rfl | rfl | rfl
  · exact ⟨RX24, TX24, 1, rfl, fun _ => Or.inl rfl, fun _ h => absurd (by decide) h⟩
  · exact ⟨RX25, TX25, 1, rfl, fun h => absurd h (by decide), fun h => by cases h⟩
  · exact ⟨RX26, TX26, 1, rfl, fun h => absurd h (by decide), fun h => by cases h⟩
  · exact ⟨RX27, TX27, 1, rfl, fun h => absurd h (by decide), fun h => by cases h⟩⟩
theorem ck_X25 : amCk "CityBrigade$Shorts" 11 [19] false := ⟨by decide, by decide, fun c hc => by
  rcases am_mem4 hc with rfl | rfl | rfl | rfl
  · exact ⟨RX24, TX24, 1, rfl, fun h => absurd h (by decide), fun h => by cases h⟩
  · exact ⟨RX25, TX25, 1, rfl, fun _ => Or.inl rfl, fun _ h => absurd (by decide) h⟩
  · exact ⟨RX26, TX26, 1, rfl, fun h => absurd h (by decide), fun h => by cases h⟩
  · exact ⟨RX27, TX27, 1, rfl, fun h => absurd h (by decide), fun h => by cases h⟩⟩
theorem ck_X26 : amCk "CityBrigade$Ints" 11 [20] false := ⟨by decide, by decide, fun c hc => by
  rcases am_mem4 hc with rfl | rfl | rfl | rfl
  · exact ⟨RX24, TX24, 1, rfl, fun h => absurd h (by decide), fun h => by cases h⟩
  · exact ⟨RX25, TX25, 1, rfl, fun h => absurd h (by decide), fun h => by cases h⟩
  · exact ⟨RX26, TX26, 1, rfl, fun _ => Or.inl rfl, fun _ h => absurd (by decide) h⟩
  · exact ⟨RX27, TX27, 1, rfl, fun h => absurd h (by decide), fun h => by cases h⟩⟩
theorem ck_X27 : amCk "CityBrigade$Floats" 11 [21] false := ⟨by decide, by decide, fun c hc => by
  rcases am_mem4 hc with rfl | rfl | rfl | rfl
  · exact ⟨RX24, TX24, 1, rfl, fun h => absurd h (by decide), fun h => by cases h⟩
  · exact ⟨RX25, TX25, 1, rfl, fun h => absurd h (by decide), fun h => by cases h⟩
  · exact ⟨RX26, TX26, 1, rfl, fun h => absurd h (by decide), fun h => by cases h⟩
  · exact ⟨RX27, TX27, 1, rfl, fun _ => Or.inl rfl, fun _ h => absurd (by decide) h⟩⟩
theorem uq_2_3 : ∀ c ∈ am_kl 2, amUq (am_lay c) 3 0 := fun c hc => by
  obtain rfl : c = 2 := List.mem_singleton.mp hc
  exact am_uq (by decide)
theorem uq_3_12 : ∀ c ∈ am_kl 3, amUq (am_lay c) 12 0 := fun c hc => by
  obtain rfl : c = 3 := List.mem_singleton.mp hc
  exact am_uq (by decide)
theorem uq_3_13 : ∀ c ∈ am_kl 3, amUq (am_lay c) 13 1 := fun c hc => by
  obtain rfl : c = 3 := List.mem_singleton.mp hc
  exact am_uq (by decide)
theorem uq_3_14 : ∀ c ∈ am_kl 3, amUq (am_lay c) 14 2 := fun c hc => by
  obtain rfl : c = 3 := List.mem_singleton.mp hc
  exact am_uq (by decide)
theorem uq_3_15 : ∀ c ∈ am_kl 3, amUq (am_lay c) 15 3 := fun c hc => by
  obtain rfl : c = 3 := List.mem_singleton.mp hc
  exact am_uq (by decide)
theorem uq_4_0 : ∀ c ∈ am_kl 4, amUq (am_lay c) 0 0 := fun c hc => by
  obtain rfl : c = 4 := List.mem_singleton.mp hc
  exact am_uq (by decide)
theorem uq_4_1 : ∀ c ∈ am_kl 4, amUq (am_lay c) 1 1 := fun c hc => by
  obtain rfl : c = 4 := List.mem_singleton.mp hc
  exact am_uq (by decide)
theorem uq_4_2 : ∀ c ∈ am_kl 4, amUq (am_lay c) 2 2 := fun c hc => by
  obtain rfl : c = 4 := List.mem_singleton.mp hc
  exact am_uq (by decide)
theorem uq_4_3 : ∀ c ∈ am_kl 4, amUq (am_lay c) 3 3 := fun c hc => by
  obtain rfl : c = 4 := List.mem_singleton.mp hc
  exact am_uq (by decide)
theorem uq_4_4 : ∀ c ∈ am_kl 4, amUq (am_lay c) 4 4 := fun c hc => by
  obtain rfl : c = 4 := List.mem_singleton.mp hc
  exact am_uq (by decide)
theorem uq_4_5 : ∀ c ∈ am_kl 4, amUq (am_lay c) 5 5 := fun c hc => by
  obtain rfl : c = 4 := List.mem_singleton.mp hc
  exact am_uq (by decide)
theorem uq_4_6 : ∀ c ∈ am_kl 4, amUq (am_lay c) 6 6 := fun c hc => by
  obtain rfl : c = 4 := List.mem_singleton.mp hc
  exact am_uq (by decide)
theorem rcD_6 : ∀ c ∈ am_kl 6, ∃ (C1 : String) (T1 : u_T) (N1 : Nat), am_cl[c]? = some (C1, T1, N1) ∧ C1 ∈ ["CityBrigade$Pump", "CityBrigade$Steamer", "CityBrigade$Ladder", "CityBrigade$Chief"] := fun c hc => by
  rcases am_mem4 hc with rfl | rfl | rfl | rfl
  · exact ⟨RX9, TX9, 18, rfl, by decide⟩
  · exact ⟨RX10, TX10, 19, rfl, by decide⟩
  · exact ⟨RX11, TX11, 17, rfl, by decide⟩
  · exact ⟨RX12, TX12, 16, rfl, by decide⟩
theorem rcs_6 : ∀ c ∈ am_kl 6, ∃ (C1 : String) (T1 : u_T) (N1 : Nat), am_cl[c]? = some (C1, T1, N1) := fun c hc => by
  rcases am_mem4 hc with rfl | rfl | rfl | rfl
  · exact ⟨RX9, TX9, 18, rfl⟩
  · exact ⟨RX10, TX10, 19, rfl⟩
  · exact ⟨RX11, TX11, 17, rfl⟩
  · exact ⟨RX12, TX12, 16, rfl⟩
theorem hd_J13_isNaN : yJ13_isNaN.cls ≠ "java/lang/invoke/MethodHandle" ∧ yJ13_isNaN.cls ≠ "java/lang/invoke/VarHandle" ∧ (parseMethodDescriptor yJ13_isNaN.desc).map (fun d => d.parameters.length) = some 1 := by decide +kernel
theorem hd_J3_fill : yJ3_fill.cls ≠ "java/lang/invoke/MethodHandle" ∧ yJ3_fill.cls ≠ "java/lang/invoke/VarHandle" ∧ (parseMethodDescriptor yJ3_fill.desc).map (fun d => d.parameters.length) = some 2 := by decide +kernel
theorem hd_J6_coder : yJ6_coder.cls ≠ "java/lang/invoke/MethodHandle" ∧ yJ6_coder.cls ≠ "java/lang/invoke/VarHandle" ∧ (parseMethodDescriptor yJ6_coder.desc).map (fun d => d.parameters.length) = some 0 := by decide +kernel
theorem hd_J6_indexOf : yJ6_indexOf.cls ≠ "java/lang/invoke/MethodHandle" ∧ yJ6_indexOf.cls ≠ "java/lang/invoke/VarHandle" ∧ (parseMethodDescriptor yJ6_indexOf.desc).map (fun d => d.parameters.length) = some 1 := by decide +kernel
theorem hd_J6_indexOf_2 : yJ6_indexOf_2.cls ≠ "java/lang/invoke/MethodHandle" ∧ yJ6_indexOf_2.cls ≠ "java/lang/invoke/VarHandle" ∧ (parseMethodDescriptor yJ6_indexOf_2.desc).map (fun d => d.parameters.length) = some 2 := by decide +kernel
theorem hd_J6_isLatin1 : yJ6_isLatin1.cls ≠ "java/lang/invoke/MethodHandle" ∧ yJ6_isLatin1.cls ≠ "java/lang/invoke/VarHandle" ∧ (parseMethodDescriptor yJ6_isLatin1.desc).map (fun d => d.parameters.length) = some 0 := by decide +kernel
theorem hd_J6_length : yJ6_length.cls ≠ "java/lang/invoke/MethodHandle" ∧ yJ6_length.cls ≠ "java/lang/invoke/VarHandle" ∧ (parseMethodDescriptor yJ6_length.desc).map (fun d => d.parameters.length) = some 0 := by decide +kernel
theorem hd_J7_canEncode : yJ7_canEncode.cls ≠ "java/lang/invoke/MethodHandle" ∧ yJ7_canEncode.cls ≠ "java/lang/invoke/VarHandle" ∧ (parseMethodDescriptor yJ7_canEncode.desc).map (fun d => d.parameters.length) = some 1 := by decide +kernel
theorem hd_J7_indexOf : yJ7_indexOf.cls ≠ "java/lang/invoke/MethodHandle" ∧ yJ7_indexOf.cls ≠ "java/lang/invoke/VarHandle" ∧ (parseMethodDescriptor yJ7_indexOf.desc).map (fun d => d.parameters.length) = some 4 := by decide +kernel
theorem hd_J7_indexOfChar : yJ7_indexOfChar.cls ≠ "java/lang/invoke/MethodHandle" ∧ yJ7_indexOfChar.cls ≠ "java/lang/invoke/VarHandle" ∧ (parseMethodDescriptor yJ7_indexOfChar.desc).map (fun d => d.parameters.length) = some 4 := by decide +kernel
theorem hd_X10_asks : yX10_asks.cls ≠ "java/lang/invoke/MethodHandle" ∧ yX10_asks.cls ≠ "java/lang/invoke/VarHandle" ∧ (parseMethodDescriptor yX10_asks.desc).map (fun d => d.parameters.length) = some 1 := by decide +kernel
theorem hd_X10_gear : yX10_gear.cls ≠ "java/lang/invoke/MethodHandle" ∧ yX10_gear.cls ≠ "java/lang/invoke/VarHandle" ∧ (parseMethodDescriptor yX10_gear.desc).map (fun d => d.parameters.length) = some 3 := by decide +kernel
theorem hd_X10_init : yX10_init.cls ≠ "java/lang/invoke/MethodHandle" ∧ yX10_init.cls ≠ "java/lang/invoke/VarHandle" ∧ (parseMethodDescriptor yX10_init.desc).map (fun d => d.parameters.length) = some 5 := by decide +kernel
theorem hd_X10_sort : yX10_sort.cls ≠ "java/lang/invoke/MethodHandle" ∧ yX10_sort.cls ≠ "java/lang/invoke/VarHandle" ∧ (parseMethodDescriptor yX10_sort.desc).map (fun d => d.parameters.length) = some 0 := by decide +kernel
theorem hd_X11_gear : yX11_gear.cls ≠ "java/lang/invoke/MethodHandle" ∧ yX11_gear.cls ≠ "java/lang/invoke/VarHandle" ∧ (parseMethodDescriptor yX11_gear.desc).map (fun d => d.parameters.length) = some 3 := by decide +kernel
theorem hd_X11_init : yX11_init.cls ≠ "java/lang/invoke/MethodHandle" ∧ yX11_init.cls ≠ "java/lang/invoke/VarHandle" ∧ (parseMethodDescriptor yX11_init.desc).map (fun d => d.parameters.length) = some 5 := by decide +kernel
theorem hd_X11_sort : yX11_sort.cls ≠ "java/lang/invoke/MethodHandle" ∧ yX11_sort.cls ≠ "java/lang/invoke/VarHandle" ∧ (parseMethodDescriptor yX11_sort.desc).map (fun d => d.parameters.length) = some 0 := by decide +kernel
theorem hd_X12_gear : yX12_gear.cls ≠ "java/lang/invoke/MethodHandle" ∧ yX12_gear.cls ≠ "java/lang/invoke/VarHandle" ∧ (parseMethodDescriptor yX12_gear.desc).map (fun d => d.parameters.length) = some 3 := by decide +kernel
theorem hd_X12_init : yX12_init.cls ≠ "java/lang/invoke/MethodHandle" ∧ yX12_init.cls ≠ "java/lang/invoke/VarHandle" ∧ (parseMethodDescriptor yX12_init.desc).map (fun d => d.parameters.length) = some 5 := by decide +kernel
theorem hd_X12_sort : yX12_sort.cls ≠ "java/lang/invoke/MethodHandle" ∧ yX12_sort.cls ≠ "java/lang/invoke/VarHandle" ∧ (parseMethodDescriptor yX12_sort.desc).map (fun d => d.parameters.length) = some 0 := by decide +kernel
theorem hd_X13_init : yX13_init.cls ≠ "java/lang/invoke/MethodHandle" ∧ yX13_init.cls ≠ "java/lang/invoke/VarHandle" ∧ (parseMethodDescriptor yX13_init.desc).map (fun d => d.parameters.length) = some 3 := by decide +kernel
theorem hd_X14_init : yX14_init.cls ≠ "java/lang/invoke/MethodHandle" ∧ yX14_init.cls ≠ "java/lang/invoke/VarHandle" ∧ (parseMethodDescriptor yX14_init.desc).map (fun d => d.parameters.length) = some 0 := by decide +kernel
theorem hd_X15_holds : yX15_holds.cls ≠ "java/lang/invoke/MethodHandle" ∧ yX15_holds.cls ≠ "java/lang/invoke/VarHandle" ∧ (parseMethodDescriptor yX15_holds.desc).map (fun d => d.parameters.length) = some 1 := by decide +kernel
theorem hd_X15_init : yX15_init.cls ≠ "java/lang/invoke/MethodHandle" ∧ yX15_init.cls ≠ "java/lang/invoke/VarHandle" ∧ (parseMethodDescriptor yX15_init.desc).map (fun d => d.parameters.length) = some 1 := by decide +kernel
theorem hd_X16_init : yX16_init.cls ≠ "java/lang/invoke/MethodHandle" ∧ yX16_init.cls ≠ "java/lang/invoke/VarHandle" ∧ (parseMethodDescriptor yX16_init.desc).map (fun d => d.parameters.length) = some 0 := by decide +kernel
theorem hd_X17_init : yX17_init.cls ≠ "java/lang/invoke/MethodHandle" ∧ yX17_init.cls ≠ "java/lang/invoke/VarHandle" ∧ (parseMethodDescriptor yX17_init.desc).map (fun d => d.parameters.length) = some 1 := by decide +kernel
theorem hd_X17_value : yX17_value.cls ≠ "java/lang/invoke/MethodHandle" ∧ yX17_value.cls ≠ "java/lang/invoke/VarHandle" ∧ (parseMethodDescriptor yX17_value.desc).map (fun d => d.parameters.length) = some 1 := by decide +kernel
theorem hd_X18_init : yX18_init.cls ≠ "java/lang/invoke/MethodHandle" ∧ yX18_init.cls ≠ "java/lang/invoke/VarHandle" ∧ (parseMethodDescriptor yX18_init.desc).map (fun d => d.parameters.length) = some 1 := by decide +kernel
theorem hd_X18_value : yX18_value.cls ≠ "java/lang/invoke/MethodHandle" ∧ yX18_value.cls ≠ "java/lang/invoke/VarHandle" ∧ (parseMethodDescriptor yX18_value.desc).map (fun d => d.parameters.length) = some 1 := by decide +kernel
theorem hd_X19_init : yX19_init.cls ≠ "java/lang/invoke/MethodHandle" ∧ yX19_init.cls ≠ "java/lang/invoke/VarHandle" ∧ (parseMethodDescriptor yX19_init.desc).map (fun d => d.parameters.length) = some 3 := by decide +kernel
theorem hd_X19_value : yX19_value.cls ≠ "java/lang/invoke/MethodHandle" ∧ yX19_value.cls ≠ "java/lang/invoke/VarHandle" ∧ (parseMethodDescriptor yX19_value.desc).map (fun d => d.parameters.length) = some 1 := by decide +kernel
theorem hd_X1_alone : yX1_alone.cls ≠ "java/lang/invoke/MethodHandle" ∧ yX1_alone.cls ≠ "java/lang/invoke/VarHandle" ∧ (parseMethodDescriptor yX1_alone.desc).map (fun d => d.parameters.length) = some 0 := by decide +kernel
theorem hd_X1_answer : yX1_answer.cls ≠ "java/lang/invoke/MethodHandle" ∧ yX1_answer.cls ≠ "java/lang/invoke/VarHandle" ∧ (parseMethodDescriptor yX1_answer.desc).map (fun d => d.parameters.length) = some 2 := by decide +kernel
theorem hd_X1_arrive : yX1_arrive.cls ≠ "java/lang/invoke/MethodHandle" ∧ yX1_arrive.cls ≠ "java/lang/invoke/VarHandle" ∧ (parseMethodDescriptor yX1_arrive.desc).map (fun d => d.parameters.length) = some 1 := by decide +kernel
theorem hd_X1_atWorkIn : yX1_atWorkIn.cls ≠ "java/lang/invoke/MethodHandle" ∧ yX1_atWorkIn.cls ≠ "java/lang/invoke/VarHandle" ∧ (parseMethodDescriptor yX1_atWorkIn.desc).map (fun d => d.parameters.length) = some 1 := by decide +kernel
theorem hd_X1_atom : yX1_atom.cls ≠ "java/lang/invoke/MethodHandle" ∧ yX1_atom.cls ≠ "java/lang/invoke/VarHandle" ∧ (parseMethodDescriptor yX1_atom.desc).map (fun d => d.parameters.length) = some 0 := by decide +kernel
theorem hd_X1_begin : yX1_begin.cls ≠ "java/lang/invoke/MethodHandle" ∧ yX1_begin.cls ≠ "java/lang/invoke/VarHandle" ∧ (parseMethodDescriptor yX1_begin.desc).map (fun d => d.parameters.length) = some 1 := by decide +kernel
theorem hd_X1_beside : yX1_beside.cls ≠ "java/lang/invoke/MethodHandle" ∧ yX1_beside.cls ≠ "java/lang/invoke/VarHandle" ∧ (parseMethodDescriptor yX1_beside.desc).map (fun d => d.parameters.length) = some 2 := by decide +kernel
theorem hd_X1_besides : yX1_besides.cls ≠ "java/lang/invoke/MethodHandle" ∧ yX1_besides.cls ≠ "java/lang/invoke/VarHandle" ∧ (parseMethodDescriptor yX1_besides.desc).map (fun d => d.parameters.length) = some 1 := by decide +kernel
theorem hd_X1_blazeOf : yX1_blazeOf.cls ≠ "java/lang/invoke/MethodHandle" ∧ yX1_blazeOf.cls ≠ "java/lang/invoke/VarHandle" ∧ (parseMethodDescriptor yX1_blazeOf.desc).map (fun d => d.parameters.length) = some 2 := by decide +kernel
theorem hd_X1_burntOf : yX1_burntOf.cls ≠ "java/lang/invoke/MethodHandle" ∧ yX1_burntOf.cls ≠ "java/lang/invoke/VarHandle" ∧ (parseMethodDescriptor yX1_burntOf.desc).map (fun d => d.parameters.length) = some 2 := by decide +kernel
theorem hd_X1_byteOf : yX1_byteOf.cls ≠ "java/lang/invoke/MethodHandle" ∧ yX1_byteOf.cls ≠ "java/lang/invoke/VarHandle" ∧ (parseMethodDescriptor yX1_byteOf.desc).map (fun d => d.parameters.length) = some 6 := by decide +kernel
theorem hd_X1_change : yX1_change.cls ≠ "java/lang/invoke/MethodHandle" ∧ yX1_change.cls ≠ "java/lang/invoke/VarHandle" ∧ (parseMethodDescriptor yX1_change.desc).map (fun d => d.parameters.length) = some 1 := by decide +kernel
theorem hd_X1_changesOf : yX1_changesOf.cls ≠ "java/lang/invoke/MethodHandle" ∧ yX1_changesOf.cls ≠ "java/lang/invoke/VarHandle" ∧ (parseMethodDescriptor yX1_changesOf.desc).map (fun d => d.parameters.length) = some 1 := by decide +kernel
theorem hd_X1_clause : yX1_clause.cls ≠ "java/lang/invoke/MethodHandle" ∧ yX1_clause.cls ≠ "java/lang/invoke/VarHandle" ∧ (parseMethodDescriptor yX1_clause.desc).map (fun d => d.parameters.length) = some 0 := by decide +kernel
theorem hd_X1_close : yX1_close.cls ≠ "java/lang/invoke/MethodHandle" ∧ yX1_close.cls ≠ "java/lang/invoke/VarHandle" ∧ (parseMethodDescriptor yX1_close.desc).map (fun d => d.parameters.length) = some 2 := by decide +kernel
theorem hd_X1_closes : yX1_closes.cls ≠ "java/lang/invoke/MethodHandle" ∧ yX1_closes.cls ≠ "java/lang/invoke/VarHandle" ∧ (parseMethodDescriptor yX1_closes.desc).map (fun d => d.parameters.length) = some 1 := by decide +kernel
theorem hd_X1_comeOn : yX1_comeOn.cls ≠ "java/lang/invoke/MethodHandle" ∧ yX1_comeOn.cls ≠ "java/lang/invoke/VarHandle" ∧ (parseMethodDescriptor yX1_comeOn.desc).map (fun d => d.parameters.length) = some 4 := by decide +kernel
theorem hd_X1_condition : yX1_condition.cls ≠ "java/lang/invoke/MethodHandle" ∧ yX1_condition.cls ≠ "java/lang/invoke/VarHandle" ∧ (parseMethodDescriptor yX1_condition.desc).map (fun d => d.parameters.length) = some 0 := by decide +kernel
theorem hd_X1_emptyHome : yX1_emptyHome.cls ≠ "java/lang/invoke/MethodHandle" ∧ yX1_emptyHome.cls ≠ "java/lang/invoke/VarHandle" ∧ (parseMethodDescriptor yX1_emptyHome.desc).map (fun d => d.parameters.length) = some 0 := by decide +kernel
theorem hd_X1_failsBy : yX1_failsBy.cls ≠ "java/lang/invoke/MethodHandle" ∧ yX1_failsBy.cls ≠ "java/lang/invoke/VarHandle" ∧ (parseMethodDescriptor yX1_failsBy.desc).map (fun d => d.parameters.length) = some 3 := by decide +kernel
theorem hd_X1_fall : yX1_fall.cls ≠ "java/lang/invoke/MethodHandle" ∧ yX1_fall.cls ≠ "java/lang/invoke/VarHandle" ∧ (parseMethodDescriptor yX1_fall.desc).map (fun d => d.parameters.length) = some 3 := by decide +kernel
theorem hd_X1_fallenOf : yX1_fallenOf.cls ≠ "java/lang/invoke/MethodHandle" ∧ yX1_fallenOf.cls ≠ "java/lang/invoke/VarHandle" ∧ (parseMethodDescriptor yX1_fallenOf.desc).map (fun d => d.parameters.length) = some 1 := by decide +kernel
theorem hd_X1_falsely : yX1_falsely.cls ≠ "java/lang/invoke/MethodHandle" ∧ yX1_falsely.cls ≠ "java/lang/invoke/VarHandle" ∧ (parseMethodDescriptor yX1_falsely.desc).map (fun d => d.parameters.length) = some 2 := by decide +kernel
theorem hd_X1_findPlan : yX1_findPlan.cls ≠ "java/lang/invoke/MethodHandle" ∧ yX1_findPlan.cls ≠ "java/lang/invoke/VarHandle" ∧ (parseMethodDescriptor yX1_findPlan.desc).map (fun d => d.parameters.length) = some 2 := by decide +kernel
theorem hd_X1_findRound : yX1_findRound.cls ≠ "java/lang/invoke/MethodHandle" ∧ yX1_findRound.cls ≠ "java/lang/invoke/VarHandle" ∧ (parseMethodDescriptor yX1_findRound.desc).map (fun d => d.parameters.length) = some 2 := by decide +kernel
theorem hd_X1_finish : yX1_finish.cls ≠ "java/lang/invoke/MethodHandle" ∧ yX1_finish.cls ≠ "java/lang/invoke/VarHandle" ∧ (parseMethodDescriptor yX1_finish.desc).map (fun d => d.parameters.length) = some 0 := by decide +kernel
theorem hd_X1_forceOf : yX1_forceOf.cls ≠ "java/lang/invoke/MethodHandle" ∧ yX1_forceOf.cls ≠ "java/lang/invoke/VarHandle" ∧ (parseMethodDescriptor yX1_forceOf.desc).map (fun d => d.parameters.length) = some 2 := by decide +kernel
theorem hd_X1_gainBy : yX1_gainBy.cls ≠ "java/lang/invoke/MethodHandle" ∧ yX1_gainBy.cls ≠ "java/lang/invoke/VarHandle" ∧ (parseMethodDescriptor yX1_gainBy.desc).map (fun d => d.parameters.length) = some 4 := by decide +kernel
theorem hd_X1_gainOf : yX1_gainOf.cls ≠ "java/lang/invoke/MethodHandle" ∧ yX1_gainOf.cls ≠ "java/lang/invoke/VarHandle" ∧ (parseMethodDescriptor yX1_gainOf.desc).map (fun d => d.parameters.length) = some 3 := by decide +kernel
theorem hd_X1_go : yX1_go.cls ≠ "java/lang/invoke/MethodHandle" ∧ yX1_go.cls ≠ "java/lang/invoke/VarHandle" ∧ (parseMethodDescriptor yX1_go.desc).map (fun d => d.parameters.length) = some 5 := by decide +kernel
theorem hd_X1_goOver : yX1_goOver.cls ≠ "java/lang/invoke/MethodHandle" ∧ yX1_goOver.cls ≠ "java/lang/invoke/VarHandle" ∧ (parseMethodDescriptor yX1_goOver.desc).map (fun d => d.parameters.length) = some 1 := by decide +kernel
theorem hd_X1_hasChief : yX1_hasChief.cls ≠ "java/lang/invoke/MethodHandle" ∧ yX1_hasChief.cls ≠ "java/lang/invoke/VarHandle" ∧ (parseMethodDescriptor yX1_hasChief.desc).map (fun d => d.parameters.length) = some 1 := by decide +kernel
theorem hd_X1_hasMate : yX1_hasMate.cls ≠ "java/lang/invoke/MethodHandle" ∧ yX1_hasMate.cls ≠ "java/lang/invoke/VarHandle" ∧ (parseMethodDescriptor yX1_hasMate.desc).map (fun d => d.parameters.length) = some 1 := by decide +kernel
theorem hd_X1_headFor : yX1_headFor.cls ≠ "java/lang/invoke/MethodHandle" ∧ yX1_headFor.cls ≠ "java/lang/invoke/VarHandle" ∧ (parseMethodDescriptor yX1_headFor.desc).map (fun d => d.parameters.length) = some 1 := by decide +kernel
theorem hd_X1_hear : yX1_hear.cls ≠ "java/lang/invoke/MethodHandle" ∧ yX1_hear.cls ≠ "java/lang/invoke/VarHandle" ∧ (parseMethodDescriptor yX1_hear.desc).map (fun d => d.parameters.length) = some 2 := by decide +kernel
theorem hd_X1_hurt : yX1_hurt.cls ≠ "java/lang/invoke/MethodHandle" ∧ yX1_hurt.cls ≠ "java/lang/invoke/VarHandle" ∧ (parseMethodDescriptor yX1_hurt.desc).map (fun d => d.parameters.length) = some 2 := by decide +kernel
theorem hd_X1_in : yX1_in.cls ≠ "java/lang/invoke/MethodHandle" ∧ yX1_in.cls ≠ "java/lang/invoke/VarHandle" ∧ (parseMethodDescriptor yX1_in.desc).map (fun d => d.parameters.length) = some 3 := by decide +kernel
theorem hd_X1_isAction : yX1_isAction.cls ≠ "java/lang/invoke/MethodHandle" ∧ yX1_isAction.cls ≠ "java/lang/invoke/VarHandle" ∧ (parseMethodDescriptor yX1_isAction.desc).map (fun d => d.parameters.length) = some 0 := by decide +kernel
theorem hd_X1_isAsked : yX1_isAsked.cls ≠ "java/lang/invoke/MethodHandle" ∧ yX1_isAsked.cls ≠ "java/lang/invoke/VarHandle" ∧ (parseMethodDescriptor yX1_isAsked.desc).map (fun d => d.parameters.length) = some 2 := by decide +kernel
theorem hd_X1_isCorner : yX1_isCorner.cls ≠ "java/lang/invoke/MethodHandle" ∧ yX1_isCorner.cls ≠ "java/lang/invoke/VarHandle" ∧ (parseMethodDescriptor yX1_isCorner.desc).map (fun d => d.parameters.length) = some 1 := by decide +kernel
theorem hd_X1_isCrew : yX1_isCrew.cls ≠ "java/lang/invoke/MethodHandle" ∧ yX1_isCrew.cls ≠ "java/lang/invoke/VarHandle" ∧ (parseMethodDescriptor yX1_isCrew.desc).map (fun d => d.parameters.length) = some 1 := by decide +kernel
theorem hd_X1_isDigit : yX1_isDigit.cls ≠ "java/lang/invoke/MethodHandle" ∧ yX1_isDigit.cls ≠ "java/lang/invoke/VarHandle" ∧ (parseMethodDescriptor yX1_isDigit.desc).map (fun d => d.parameters.length) = some 1 := by decide +kernel
theorem hd_X1_isFloor : yX1_isFloor.cls ≠ "java/lang/invoke/MethodHandle" ∧ yX1_isFloor.cls ≠ "java/lang/invoke/VarHandle" ∧ (parseMethodDescriptor yX1_isFloor.desc).map (fun d => d.parameters.length) = some 2 := by decide +kernel
theorem hd_X1_isHouse : yX1_isHouse.cls ≠ "java/lang/invoke/MethodHandle" ∧ yX1_isHouse.cls ≠ "java/lang/invoke/VarHandle" ∧ (parseMethodDescriptor yX1_isHouse.desc).map (fun d => d.parameters.length) = some 1 := by decide +kernel
theorem hd_X1_isJudged : yX1_isJudged.cls ≠ "java/lang/invoke/MethodHandle" ∧ yX1_isJudged.cls ≠ "java/lang/invoke/VarHandle" ∧ (parseMethodDescriptor yX1_isJudged.desc).map (fun d => d.parameters.length) = some 3 := by decide +kernel
theorem hd_X1_isManned : yX1_isManned.cls ≠ "java/lang/invoke/MethodHandle" ∧ yX1_isManned.cls ≠ "java/lang/invoke/VarHandle" ∧ (parseMethodDescriptor yX1_isManned.desc).map (fun d => d.parameters.length) = some 1 := by decide +kernel
theorem hd_X1_isRoom : yX1_isRoom.cls ≠ "java/lang/invoke/MethodHandle" ∧ yX1_isRoom.cls ≠ "java/lang/invoke/VarHandle" ∧ (parseMethodDescriptor yX1_isRoom.desc).map (fun d => d.parameters.length) = some 2 := by decide +kernel
theorem hd_X1_isRow : yX1_isRow.cls ≠ "java/lang/invoke/MethodHandle" ∧ yX1_isRow.cls ≠ "java/lang/invoke/VarHandle" ∧ (parseMethodDescriptor yX1_isRow.desc).map (fun d => d.parameters.length) = some 1 := by decide +kernel
theorem hd_X1_isStreet : yX1_isStreet.cls ≠ "java/lang/invoke/MethodHandle" ∧ yX1_isStreet.cls ≠ "java/lang/invoke/VarHandle" ∧ (parseMethodDescriptor yX1_isStreet.desc).map (fun d => d.parameters.length) = some 1 := by decide +kernel
theorem hd_X1_isWorked : yX1_isWorked.cls ≠ "java/lang/invoke/MethodHandle" ∧ yX1_isWorked.cls ≠ "java/lang/invoke/VarHandle" ∧ (parseMethodDescriptor yX1_isWorked.desc).map (fun d => d.parameters.length) = some 1 := by decide +kernel
theorem hd_X1_judged : yX1_judged.cls ≠ "java/lang/invoke/MethodHandle" ∧ yX1_judged.cls ≠ "java/lang/invoke/VarHandle" ∧ (parseMethodDescriptor yX1_judged.desc).map (fun d => d.parameters.length) = some 3 := by decide +kernel
theorem hd_X1_leaves : yX1_leaves.cls ≠ "java/lang/invoke/MethodHandle" ∧ yX1_leaves.cls ≠ "java/lang/invoke/VarHandle" ∧ (parseMethodDescriptor yX1_leaves.desc).map (fun d => d.parameters.length) = some 3 := by decide +kernel
theorem hd_X1_lettersOf : yX1_lettersOf.cls ≠ "java/lang/invoke/MethodHandle" ∧ yX1_lettersOf.cls ≠ "java/lang/invoke/VarHandle" ∧ (parseMethodDescriptor yX1_lettersOf.desc).map (fun d => d.parameters.length) = some 1 := by decide +kernel
theorem hd_X1_look : yX1_look.cls ≠ "java/lang/invoke/MethodHandle" ∧ yX1_look.cls ≠ "java/lang/invoke/VarHandle" ∧ (parseMethodDescriptor yX1_look.desc).map (fun d => d.parameters.length) = some 0 := by decide +kernel
theorem hd_X1_make : yX1_make.cls ≠ "java/lang/invoke/MethodHandle" ∧ yX1_make.cls ≠ "java/lang/invoke/VarHandle" ∧ (parseMethodDescriptor yX1_make.desc).map (fun d => d.parameters.length) = some 5 := by decide +kernel
theorem hd_X1_minute : yX1_minute.cls ≠ "java/lang/invoke/MethodHandle" ∧ yX1_minute.cls ≠ "java/lang/invoke/VarHandle" ∧ (parseMethodDescriptor yX1_minute.desc).map (fun d => d.parameters.length) = some 0 := by decide +kernel
theorem hd_X1_moveUp : yX1_moveUp.cls ≠ "java/lang/invoke/MethodHandle" ∧ yX1_moveUp.cls ≠ "java/lang/invoke/VarHandle" ∧ (parseMethodDescriptor yX1_moveUp.desc).map (fun d => d.parameters.length) = some 0 := by decide +kernel
theorem hd_X1_nearest : yX1_nearest.cls ≠ "java/lang/invoke/MethodHandle" ∧ yX1_nearest.cls ≠ "java/lang/invoke/VarHandle" ∧ (parseMethodDescriptor yX1_nearest.desc).map (fun d => d.parameters.length) = some 2 := by decide +kernel
theorem hd_X1_need : yX1_need.cls ≠ "java/lang/invoke/MethodHandle" ∧ yX1_need.cls ≠ "java/lang/invoke/VarHandle" ∧ (parseMethodDescriptor yX1_need.desc).map (fun d => d.parameters.length) = some 1 := by decide +kernel
theorem hd_X1_note : yX1_note.cls ≠ "java/lang/invoke/MethodHandle" ∧ yX1_note.cls ≠ "java/lang/invoke/VarHandle" ∧ (parseMethodDescriptor yX1_note.desc).map (fun d => d.parameters.length) = some 3 := by decide +kernel
theorem hd_X1_notice : yX1_notice.cls ≠ "java/lang/invoke/MethodHandle" ∧ yX1_notice.cls ≠ "java/lang/invoke/VarHandle" ∧ (parseMethodDescriptor yX1_notice.desc).map (fun d => d.parameters.length) = some 0 := by decide +kernel
theorem hd_X1_number : yX1_number.cls ≠ "java/lang/invoke/MethodHandle" ∧ yX1_number.cls ≠ "java/lang/invoke/VarHandle" ∧ (parseMethodDescriptor yX1_number.desc).map (fun d => d.parameters.length) = some 1 := by decide +kernel
theorem hd_X1_openAt : yX1_openAt.cls ≠ "java/lang/invoke/MethodHandle" ∧ yX1_openAt.cls ≠ "java/lang/invoke/VarHandle" ∧ (parseMethodDescriptor yX1_openAt.desc).map (fun d => d.parameters.length) = some 1 := by decide +kernel
theorem hd_X1_opens : yX1_opens.cls ≠ "java/lang/invoke/MethodHandle" ∧ yX1_opens.cls ≠ "java/lang/invoke/VarHandle" ∧ (parseMethodDescriptor yX1_opens.desc).map (fun d => d.parameters.length) = some 0 := by decide +kernel
theorem hd_X1_part : yX1_part.cls ≠ "java/lang/invoke/MethodHandle" ∧ yX1_part.cls ≠ "java/lang/invoke/VarHandle" ∧ (parseMethodDescriptor yX1_part.desc).map (fun d => d.parameters.length) = some 0 := by decide +kernel
theorem hd_X1_partOf : yX1_partOf.cls ≠ "java/lang/invoke/MethodHandle" ∧ yX1_partOf.cls ≠ "java/lang/invoke/VarHandle" ∧ (parseMethodDescriptor yX1_partOf.desc).map (fun d => d.parameters.length) = some 1 := by decide +kernel
theorem hd_X1_pass : yX1_pass.cls ≠ "java/lang/invoke/MethodHandle" ∧ yX1_pass.cls ≠ "java/lang/invoke/VarHandle" ∧ (parseMethodDescriptor yX1_pass.desc).map (fun d => d.parameters.length) = some 4 := by decide +kernel
theorem hd_X1_pick : yX1_pick.cls ≠ "java/lang/invoke/MethodHandle" ∧ yX1_pick.cls ≠ "java/lang/invoke/VarHandle" ∧ (parseMethodDescriptor yX1_pick.desc).map (fun d => d.parameters.length) = some 5 := by decide +kernel
theorem hd_X1_plot : yX1_plot.cls ≠ "java/lang/invoke/MethodHandle" ∧ yX1_plot.cls ≠ "java/lang/invoke/VarHandle" ∧ (parseMethodDescriptor yX1_plot.desc).map (fun d => d.parameters.length) = some 1 := by decide +kernel
theorem hd_X1_points : yX1_points.cls ≠ "java/lang/invoke/MethodHandle" ∧ yX1_points.cls ≠ "java/lang/invoke/VarHandle" ∧ (parseMethodDescriptor yX1_points.desc).map (fun d => d.parameters.length) = some 3 := by decide +kernel
theorem hd_X1_reachOf : yX1_reachOf.cls ≠ "java/lang/invoke/MethodHandle" ∧ yX1_reachOf.cls ≠ "java/lang/invoke/VarHandle" ∧ (parseMethodDescriptor yX1_reachOf.desc).map (fun d => d.parameters.length) = some 2 := by decide +kernel
theorem hd_X1_ready : yX1_ready.cls ≠ "java/lang/invoke/MethodHandle" ∧ yX1_ready.cls ≠ "java/lang/invoke/VarHandle" ∧ (parseMethodDescriptor yX1_ready.desc).map (fun d => d.parameters.length) = some 2 := by decide +kernel
theorem hd_X1_readyOf : yX1_readyOf.cls ≠ "java/lang/invoke/MethodHandle" ∧ yX1_readyOf.cls ≠ "java/lang/invoke/VarHandle" ∧ (parseMethodDescriptor yX1_readyOf.desc).map (fun d => d.parameters.length) = some 1 := by decide +kernel
theorem hd_X1_regard : yX1_regard.cls ≠ "java/lang/invoke/MethodHandle" ∧ yX1_regard.cls ≠ "java/lang/invoke/VarHandle" ∧ (parseMethodDescriptor yX1_regard.desc).map (fun d => d.parameters.length) = some 2 := by decide +kernel
theorem hd_X1_roomFor : yX1_roomFor.cls ≠ "java/lang/invoke/MethodHandle" ∧ yX1_roomFor.cls ≠ "java/lang/invoke/VarHandle" ∧ (parseMethodDescriptor yX1_roomFor.desc).map (fun d => d.parameters.length) = some 2 := by decide +kernel
theorem hd_X1_save : yX1_save.cls ≠ "java/lang/invoke/MethodHandle" ∧ yX1_save.cls ≠ "java/lang/invoke/VarHandle" ∧ (parseMethodDescriptor yX1_save.desc).map (fun d => d.parameters.length) = some 1 := by decide +kernel
theorem hd_X1_send : yX1_send.cls ≠ "java/lang/invoke/MethodHandle" ∧ yX1_send.cls ≠ "java/lang/invoke/VarHandle" ∧ (parseMethodDescriptor yX1_send.desc).map (fun d => d.parameters.length) = some 1 := by decide +kernel
theorem hd_X1_share : yX1_share.cls ≠ "java/lang/invoke/MethodHandle" ∧ yX1_share.cls ≠ "java/lang/invoke/VarHandle" ∧ (parseMethodDescriptor yX1_share.desc).map (fun d => d.parameters.length) = some 0 := by decide +kernel
theorem hd_X1_smother : yX1_smother.cls ≠ "java/lang/invoke/MethodHandle" ∧ yX1_smother.cls ≠ "java/lang/invoke/VarHandle" ∧ (parseMethodDescriptor yX1_smother.desc).map (fun d => d.parameters.length) = some 0 := by decide +kernel
theorem hd_X1_stroll : yX1_stroll.cls ≠ "java/lang/invoke/MethodHandle" ∧ yX1_stroll.cls ≠ "java/lang/invoke/VarHandle" ∧ (parseMethodDescriptor yX1_stroll.desc).map (fun d => d.parameters.length) = some 1 := by decide +kernel
theorem hd_X1_sum : yX1_sum.cls ≠ "java/lang/invoke/MethodHandle" ∧ yX1_sum.cls ≠ "java/lang/invoke/VarHandle" ∧ (parseMethodDescriptor yX1_sum.desc).map (fun d => d.parameters.length) = some 0 := by decide +kernel
theorem hd_X1_survey : yX1_survey.cls ≠ "java/lang/invoke/MethodHandle" ∧ yX1_survey.cls ≠ "java/lang/invoke/VarHandle" ∧ (parseMethodDescriptor yX1_survey.desc).map (fun d => d.parameters.length) = some 0 := by decide +kernel
theorem hd_X1_term : yX1_term.cls ≠ "java/lang/invoke/MethodHandle" ∧ yX1_term.cls ≠ "java/lang/invoke/VarHandle" ∧ (parseMethodDescriptor yX1_term.desc).map (fun d => d.parameters.length) = some 0 := by decide +kernel
theorem hd_X1_turnHome : yX1_turnHome.cls ≠ "java/lang/invoke/MethodHandle" ∧ yX1_turnHome.cls ≠ "java/lang/invoke/VarHandle" ∧ (parseMethodDescriptor yX1_turnHome.desc).map (fun d => d.parameters.length) = some 1 := by decide +kernel
theorem hd_X1_unit : yX1_unit.cls ≠ "java/lang/invoke/MethodHandle" ∧ yX1_unit.cls ≠ "java/lang/invoke/VarHandle" ∧ (parseMethodDescriptor yX1_unit.desc).map (fun d => d.parameters.length) = some 0 := by decide +kernel
theorem hd_X1_unlooked : yX1_unlooked.cls ≠ "java/lang/invoke/MethodHandle" ∧ yX1_unlooked.cls ≠ "java/lang/invoke/VarHandle" ∧ (parseMethodDescriptor yX1_unlooked.desc).map (fun d => d.parameters.length) = some 2 := by decide +kernel
theorem hd_X1_usedAt : yX1_usedAt.cls ≠ "java/lang/invoke/MethodHandle" ∧ yX1_usedAt.cls ≠ "java/lang/invoke/VarHandle" ∧ (parseMethodDescriptor yX1_usedAt.desc).map (fun d => d.parameters.length) = some 2 := by decide +kernel
theorem hd_X1_walkOf : yX1_walkOf.cls ≠ "java/lang/invoke/MethodHandle" ∧ yX1_walkOf.cls ≠ "java/lang/invoke/VarHandle" ∧ (parseMethodDescriptor yX1_walkOf.desc).map (fun d => d.parameters.length) = some 2 := by decide +kernel
theorem hd_X1_whole : yX1_whole.cls ≠ "java/lang/invoke/MethodHandle" ∧ yX1_whole.cls ≠ "java/lang/invoke/VarHandle" ∧ (parseMethodDescriptor yX1_whole.desc).map (fun d => d.parameters.length) = some 1 := by decide +kernel
theorem hd_X1_work : yX1_work.cls ≠ "java/lang/invoke/MethodHandle" ∧ yX1_work.cls ≠ "java/lang/invoke/VarHandle" ∧ (parseMethodDescriptor yX1_work.desc).map (fun d => d.parameters.length) = some 1 := by decide +kernel
theorem hd_X1_worst : yX1_worst.cls ≠ "java/lang/invoke/MethodHandle" ∧ yX1_worst.cls ≠ "java/lang/invoke/VarHandle" ∧ (parseMethodDescriptor yX1_worst.desc).map (fun d => d.parameters.length) = some 1 := by decide +kernel
theorem hd_X20_holds : yX20_holds.cls ≠ "java/lang/invoke/MethodHandle" ∧ yX20_holds.cls ≠ "java/lang/invoke/VarHandle" ∧ (parseMethodDescriptor yX20_holds.desc).map (fun d => d.parameters.length) = some 1 := by decide +kernel
theorem hd_X20_init : yX20_init.cls ≠ "java/lang/invoke/MethodHandle" ∧ yX20_init.cls ≠ "java/lang/invoke/VarHandle" ∧ (parseMethodDescriptor yX20_init.desc).map (fun d => d.parameters.length) = some 3 := by decide +kernel
theorem hd_X21_holds : yX21_holds.cls ≠ "java/lang/invoke/MethodHandle" ∧ yX21_holds.cls ≠ "java/lang/invoke/VarHandle" ∧ (parseMethodDescriptor yX21_holds.desc).map (fun d => d.parameters.length) = some 1 := by decide +kernel
theorem hd_X21_init : yX21_init.cls ≠ "java/lang/invoke/MethodHandle" ∧ yX21_init.cls ≠ "java/lang/invoke/VarHandle" ∧ (parseMethodDescriptor yX21_init.desc).map (fun d => d.parameters.length) = some 3 := by decide +kernel
theorem hd_X22_init : yX22_init.cls ≠ "java/lang/invoke/MethodHandle" ∧ yX22_init.cls ≠ "java/lang/invoke/VarHandle" ∧ (parseMethodDescriptor yX22_init.desc).map (fun d => d.parameters.length) = some 1 := by decide +kernel
theorem hd_X23_init : yX23_init.cls ≠ "java/lang/invoke/MethodHandle" ∧ yX23_init.cls ≠ "java/lang/invoke/VarHandle" ∧ (parseMethodDescriptor yX23_init.desc).map (fun d => d.parameters.length) = some 0 := by decide +kernel
theorem hd_X24_init : yX24_init.cls ≠ "java/lang/invoke/MethodHandle" ∧ yX24_init.cls ≠ "java/lang/invoke/VarHandle" ∧ (parseMethodDescriptor yX24_init.desc).map (fun d => d.parameters.length) = some 0 := by decide +kernel
theorem hd_X24_put : yX24_put.cls ≠ "java/lang/invoke/MethodHandle" ∧ yX24_put.cls ≠ "java/lang/invoke/VarHandle" ∧ (parseMethodDescriptor yX24_put.desc).map (fun d => d.parameters.length) = some 2 := by decide +kernel
theorem hd_X24_value : yX24_value.cls ≠ "java/lang/invoke/MethodHandle" ∧ yX24_value.cls ≠ "java/lang/invoke/VarHandle" ∧ (parseMethodDescriptor yX24_value.desc).map (fun d => d.parameters.length) = some 1 := by decide +kernel
theorem hd_X25_init : yX25_init.cls ≠ "java/lang/invoke/MethodHandle" ∧ yX25_init.cls ≠ "java/lang/invoke/VarHandle" ∧ (parseMethodDescriptor yX25_init.desc).map (fun d => d.parameters.length) = some 0 := by decide +kernel
theorem hd_X25_put : yX25_put.cls ≠ "java/lang/invoke/MethodHandle" ∧ yX25_put.cls ≠ "java/lang/invoke/VarHandle" ∧ (parseMethodDescriptor yX25_put.desc).map (fun d => d.parameters.length) = some 2 := by decide +kernel
theorem hd_X25_value : yX25_value.cls ≠ "java/lang/invoke/MethodHandle" ∧ yX25_value.cls ≠ "java/lang/invoke/VarHandle" ∧ (parseMethodDescriptor yX25_value.desc).map (fun d => d.parameters.length) = some 1 := by decide +kernel
theorem hd_X26_init : yX26_init.cls ≠ "java/lang/invoke/MethodHandle" ∧ yX26_init.cls ≠ "java/lang/invoke/VarHandle" ∧ (parseMethodDescriptor yX26_init.desc).map (fun d => d.parameters.length) = some 0 := by decide +kernel
theorem hd_X26_put : yX26_put.cls ≠ "java/lang/invoke/MethodHandle" ∧ yX26_put.cls ≠ "java/lang/invoke/VarHandle" ∧ (parseMethodDescriptor yX26_put.desc).map (fun d => d.parameters.length) = some 2 := by decide +kernel
theorem hd_X26_value : yX26_value.cls ≠ "java/lang/invoke/MethodHandle" ∧ yX26_value.cls ≠ "java/lang/invoke/VarHandle" ∧ (parseMethodDescriptor yX26_value.desc).map (fun d => d.parameters.length) = some 1 := by decide +kernel
theorem hd_X27_init : yX27_init.cls ≠ "java/lang/invoke/MethodHandle" ∧ yX27_init.cls ≠ "java/lang/invoke/VarHandle" ∧ (parseMethodDescriptor yX27_init.desc).map (fun d => d.parameters.length) = some 0 := by decide +kernel
theorem hd_X27_put : yX27_put.cls ≠ "java/lang/invoke/MethodHandle" ∧ yX27_put.cls ≠ "java/lang/invoke/VarHandle" ∧ (parseMethodDescriptor yX27_put.desc).map (fun d => d.parameters.length) = some 2 := by decide +kernel
theorem hd_X27_value : yX27_value.cls ≠ "java/lang/invoke/MethodHandle" ∧ yX27_value.cls ≠ "java/lang/invoke/VarHandle" ∧ (parseMethodDescriptor yX27_value.desc).map (fun d => d.parameters.length) = some 1 := by decide +kernel
theorem hd_X28_slow : yX28_slow.cls ≠ "java/lang/invoke/MethodHandle" ∧ yX28_slow.cls ≠ "java/lang/invoke/VarHandle" ∧ (parseMethodDescriptor yX28_slow.desc).map (fun d => d.parameters.length) = some 1 := by decide +kernel
theorem hd_X3_actFor : yX3_actFor.cls ≠ "java/lang/invoke/MethodHandle" ∧ yX3_actFor.cls ≠ "java/lang/invoke/VarHandle" ∧ (parseMethodDescriptor yX3_actFor.desc).map (fun d => d.parameters.length) = some 2 := by decide +kernel
theorem hd_X3_actionOf : yX3_actionOf.cls ≠ "java/lang/invoke/MethodHandle" ∧ yX3_actionOf.cls ≠ "java/lang/invoke/VarHandle" ∧ (parseMethodDescriptor yX3_actionOf.desc).map (fun d => d.parameters.length) = some 1 := by decide +kernel
theorem hd_X3_answer : yX3_answer.cls ≠ "java/lang/invoke/MethodHandle" ∧ yX3_answer.cls ≠ "java/lang/invoke/VarHandle" ∧ (parseMethodDescriptor yX3_answer.desc).map (fun d => d.parameters.length) = some 1 := by decide +kernel
theorem hd_X3_arrives : yX3_arrives.cls ≠ "java/lang/invoke/MethodHandle" ∧ yX3_arrives.cls ≠ "java/lang/invoke/VarHandle" ∧ (parseMethodDescriptor yX3_arrives.desc).map (fun d => d.parameters.length) = some 1 := by decide +kernel
theorem hd_X3_askFor : yX3_askFor.cls ≠ "java/lang/invoke/MethodHandle" ∧ yX3_askFor.cls ≠ "java/lang/invoke/VarHandle" ∧ (parseMethodDescriptor yX3_askFor.desc).map (fun d => d.parameters.length) = some 2 := by decide +kernel
theorem hd_X3_atom : yX3_atom.cls ≠ "java/lang/invoke/MethodHandle" ∧ yX3_atom.cls ≠ "java/lang/invoke/VarHandle" ∧ (parseMethodDescriptor yX3_atom.desc).map (fun d => d.parameters.length) = some 0 := by decide +kernel
theorem hd_X3_bears : yX3_bears.cls ≠ "java/lang/invoke/MethodHandle" ∧ yX3_bears.cls ≠ "java/lang/invoke/VarHandle" ∧ (parseMethodDescriptor yX3_bears.desc).map (fun d => d.parameters.length) = some 1 := by decide +kernel
theorem hd_X3_beside : yX3_beside.cls ≠ "java/lang/invoke/MethodHandle" ∧ yX3_beside.cls ≠ "java/lang/invoke/VarHandle" ∧ (parseMethodDescriptor yX3_beside.desc).map (fun d => d.parameters.length) = some 2 := by decide +kernel
theorem hd_X3_bound : yX3_bound.cls ≠ "java/lang/invoke/MethodHandle" ∧ yX3_bound.cls ≠ "java/lang/invoke/VarHandle" ∧ (parseMethodDescriptor yX3_bound.desc).map (fun d => d.parameters.length) = some 1 := by decide +kernel
theorem hd_X3_burn : yX3_burn.cls ≠ "java/lang/invoke/MethodHandle" ∧ yX3_burn.cls ≠ "java/lang/invoke/VarHandle" ∧ (parseMethodDescriptor yX3_burn.desc).map (fun d => d.parameters.length) = some 1 := by decide +kernel
theorem hd_X3_burning : yX3_burning.cls ≠ "java/lang/invoke/MethodHandle" ∧ yX3_burning.cls ≠ "java/lang/invoke/VarHandle" ∧ (parseMethodDescriptor yX3_burning.desc).map (fun d => d.parameters.length) = some 1 := by decide +kernel
theorem hd_X3_burns : yX3_burns.cls ≠ "java/lang/invoke/MethodHandle" ∧ yX3_burns.cls ≠ "java/lang/invoke/VarHandle" ∧ (parseMethodDescriptor yX3_burns.desc).map (fun d => d.parameters.length) = some 2 := by decide +kernel
theorem hd_X3_burnsAt : yX3_burnsAt.cls ≠ "java/lang/invoke/MethodHandle" ∧ yX3_burnsAt.cls ≠ "java/lang/invoke/VarHandle" ∧ (parseMethodDescriptor yX3_burnsAt.desc).map (fun d => d.parameters.length) = some 1 := by decide +kernel
theorem hd_X3_burntOf : yX3_burntOf.cls ≠ "java/lang/invoke/MethodHandle" ∧ yX3_burntOf.cls ≠ "java/lang/invoke/VarHandle" ∧ (parseMethodDescriptor yX3_burntOf.desc).map (fun d => d.parameters.length) = some 1 := by decide +kernel
theorem hd_X3_bytesIn : yX3_bytesIn.cls ≠ "java/lang/invoke/MethodHandle" ∧ yX3_bytesIn.cls ≠ "java/lang/invoke/VarHandle" ∧ (parseMethodDescriptor yX3_bytesIn.desc).map (fun d => d.parameters.length) = some 1 := by decide +kernel
theorem hd_X3_canJudge : yX3_canJudge.cls ≠ "java/lang/invoke/MethodHandle" ∧ yX3_canJudge.cls ≠ "java/lang/invoke/VarHandle" ∧ (parseMethodDescriptor yX3_canJudge.desc).map (fun d => d.parameters.length) = some 3 := by decide +kernel
theorem hd_X3_clause : yX3_clause.cls ≠ "java/lang/invoke/MethodHandle" ∧ yX3_clause.cls ≠ "java/lang/invoke/VarHandle" ∧ (parseMethodDescriptor yX3_clause.desc).map (fun d => d.parameters.length) = some 2 := by decide +kernel
theorem hd_X3_close : yX3_close.cls ≠ "java/lang/invoke/MethodHandle" ∧ yX3_close.cls ≠ "java/lang/invoke/VarHandle" ∧ (parseMethodDescriptor yX3_close.desc).map (fun d => d.parameters.length) = some 2 := by decide +kernel
theorem hd_X3_comeBy : yX3_comeBy.cls ≠ "java/lang/invoke/MethodHandle" ∧ yX3_comeBy.cls ≠ "java/lang/invoke/VarHandle" ∧ (parseMethodDescriptor yX3_comeBy.desc).map (fun d => d.parameters.length) = some 4 := by decide +kernel
theorem hd_X3_condition : yX3_condition.cls ≠ "java/lang/invoke/MethodHandle" ∧ yX3_condition.cls ≠ "java/lang/invoke/VarHandle" ∧ (parseMethodDescriptor yX3_condition.desc).map (fun d => d.parameters.length) = some 0 := by decide +kernel
theorem hd_X3_daysFrom : yX3_daysFrom.cls ≠ "java/lang/invoke/MethodHandle" ∧ yX3_daysFrom.cls ≠ "java/lang/invoke/VarHandle" ∧ (parseMethodDescriptor yX3_daysFrom.desc).map (fun d => d.parameters.length) = some 2 := by decide +kernel
theorem hd_X3_emptyHome : yX3_emptyHome.cls ≠ "java/lang/invoke/MethodHandle" ∧ yX3_emptyHome.cls ≠ "java/lang/invoke/VarHandle" ∧ (parseMethodDescriptor yX3_emptyHome.desc).map (fun d => d.parameters.length) = some 0 := by decide +kernel
theorem hd_X3_failsBy : yX3_failsBy.cls ≠ "java/lang/invoke/MethodHandle" ∧ yX3_failsBy.cls ≠ "java/lang/invoke/VarHandle" ∧ (parseMethodDescriptor yX3_failsBy.desc).map (fun d => d.parameters.length) = some 2 := by decide +kernel
theorem hd_X3_falls : yX3_falls.cls ≠ "java/lang/invoke/MethodHandle" ∧ yX3_falls.cls ≠ "java/lang/invoke/VarHandle" ∧ (parseMethodDescriptor yX3_falls.desc).map (fun d => d.parameters.length) = some 3 := by decide +kernel
theorem hd_X3_falseOf : yX3_falseOf.cls ≠ "java/lang/invoke/MethodHandle" ∧ yX3_falseOf.cls ≠ "java/lang/invoke/VarHandle" ∧ (parseMethodDescriptor yX3_falseOf.desc).map (fun d => d.parameters.length) = some 2 := by decide +kernel
theorem hd_X3_fault : yX3_fault.cls ≠ "java/lang/invoke/MethodHandle" ∧ yX3_fault.cls ≠ "java/lang/invoke/VarHandle" ∧ (parseMethodDescriptor yX3_fault.desc).map (fun d => d.parameters.length) = some 1 := by decide +kernel
theorem hd_X3_findPlan : yX3_findPlan.cls ≠ "java/lang/invoke/MethodHandle" ∧ yX3_findPlan.cls ≠ "java/lang/invoke/VarHandle" ∧ (parseMethodDescriptor yX3_findPlan.desc).map (fun d => d.parameters.length) = some 2 := by decide +kernel
theorem hd_X3_findTour : yX3_findTour.cls ≠ "java/lang/invoke/MethodHandle" ∧ yX3_findTour.cls ≠ "java/lang/invoke/VarHandle" ∧ (parseMethodDescriptor yX3_findTour.desc).map (fun d => d.parameters.length) = some 2 := by decide +kernel
theorem hd_X3_floorOf : yX3_floorOf.cls ≠ "java/lang/invoke/MethodHandle" ∧ yX3_floorOf.cls ≠ "java/lang/invoke/VarHandle" ∧ (parseMethodDescriptor yX3_floorOf.desc).map (fun d => d.parameters.length) = some 2 := by decide +kernel
theorem hd_X3_fromBeside : yX3_fromBeside.cls ≠ "java/lang/invoke/MethodHandle" ∧ yX3_fromBeside.cls ≠ "java/lang/invoke/VarHandle" ∧ (parseMethodDescriptor yX3_fromBeside.desc).map (fun d => d.parameters.length) = some 3 := by decide +kernel
theorem hd_X3_gain : yX3_gain.cls ≠ "java/lang/invoke/MethodHandle" ∧ yX3_gain.cls ≠ "java/lang/invoke/VarHandle" ∧ (parseMethodDescriptor yX3_gain.desc).map (fun d => d.parameters.length) = some 2 := by decide +kernel
theorem hd_X3_goThrough : yX3_goThrough.cls ≠ "java/lang/invoke/MethodHandle" ∧ yX3_goThrough.cls ≠ "java/lang/invoke/VarHandle" ∧ (parseMethodDescriptor yX3_goThrough.desc).map (fun d => d.parameters.length) = some 4 := by decide +kernel
theorem hd_X3_goesIn : yX3_goesIn.cls ≠ "java/lang/invoke/MethodHandle" ∧ yX3_goesIn.cls ≠ "java/lang/invoke/VarHandle" ∧ (parseMethodDescriptor yX3_goesIn.desc).map (fun d => d.parameters.length) = some 0 := by decide +kernel
theorem hd_X3_hasChief : yX3_hasChief.cls ≠ "java/lang/invoke/MethodHandle" ∧ yX3_hasChief.cls ≠ "java/lang/invoke/VarHandle" ∧ (parseMethodDescriptor yX3_hasChief.desc).map (fun d => d.parameters.length) = some 1 := by decide +kernel
theorem hd_X3_headFor : yX3_headFor.cls ≠ "java/lang/invoke/MethodHandle" ∧ yX3_headFor.cls ≠ "java/lang/invoke/VarHandle" ∧ (parseMethodDescriptor yX3_headFor.desc).map (fun d => d.parameters.length) = some 1 := by decide +kernel
theorem hd_X3_isCorner : yX3_isCorner.cls ≠ "java/lang/invoke/MethodHandle" ∧ yX3_isCorner.cls ≠ "java/lang/invoke/VarHandle" ∧ (parseMethodDescriptor yX3_isCorner.desc).map (fun d => d.parameters.length) = some 1 := by decide +kernel
theorem hd_X3_isCrew : yX3_isCrew.cls ≠ "java/lang/invoke/MethodHandle" ∧ yX3_isCrew.cls ≠ "java/lang/invoke/VarHandle" ∧ (parseMethodDescriptor yX3_isCrew.desc).map (fun d => d.parameters.length) = some 1 := by decide +kernel
theorem hd_X3_isDigit : yX3_isDigit.cls ≠ "java/lang/invoke/MethodHandle" ∧ yX3_isDigit.cls ≠ "java/lang/invoke/VarHandle" ∧ (parseMethodDescriptor yX3_isDigit.desc).map (fun d => d.parameters.length) = some 0 := by decide +kernel
theorem hd_X3_isFloor : yX3_isFloor.cls ≠ "java/lang/invoke/MethodHandle" ∧ yX3_isFloor.cls ≠ "java/lang/invoke/VarHandle" ∧ (parseMethodDescriptor yX3_isFloor.desc).map (fun d => d.parameters.length) = some 2 := by decide +kernel
theorem hd_X3_isHouse : yX3_isHouse.cls ≠ "java/lang/invoke/MethodHandle" ∧ yX3_isHouse.cls ≠ "java/lang/invoke/VarHandle" ∧ (parseMethodDescriptor yX3_isHouse.desc).map (fun d => d.parameters.length) = some 1 := by decide +kernel
theorem hd_X3_isIn : yX3_isIn.cls ≠ "java/lang/invoke/MethodHandle" ∧ yX3_isIn.cls ≠ "java/lang/invoke/VarHandle" ∧ (parseMethodDescriptor yX3_isIn.desc).map (fun d => d.parameters.length) = some 3 := by decide +kernel
theorem hd_X3_isRoom : yX3_isRoom.cls ≠ "java/lang/invoke/MethodHandle" ∧ yX3_isRoom.cls ≠ "java/lang/invoke/VarHandle" ∧ (parseMethodDescriptor yX3_isRoom.desc).map (fun d => d.parameters.length) = some 2 := by decide +kernel
theorem hd_X3_isRow : yX3_isRow.cls ≠ "java/lang/invoke/MethodHandle" ∧ yX3_isRow.cls ≠ "java/lang/invoke/VarHandle" ∧ (parseMethodDescriptor yX3_isRow.desc).map (fun d => d.parameters.length) = some 1 := by decide +kernel
theorem hd_X3_isShared : yX3_isShared.cls ≠ "java/lang/invoke/MethodHandle" ∧ yX3_isShared.cls ≠ "java/lang/invoke/VarHandle" ∧ (parseMethodDescriptor yX3_isShared.desc).map (fun d => d.parameters.length) = some 1 := by decide +kernel
theorem hd_X3_isStreet : yX3_isStreet.cls ≠ "java/lang/invoke/MethodHandle" ∧ yX3_isStreet.cls ≠ "java/lang/invoke/VarHandle" ∧ (parseMethodDescriptor yX3_isStreet.desc).map (fun d => d.parameters.length) = some 1 := by decide +kernel
theorem hd_X3_isWithin : yX3_isWithin.cls ≠ "java/lang/invoke/MethodHandle" ∧ yX3_isWithin.cls ≠ "java/lang/invoke/VarHandle" ∧ (parseMethodDescriptor yX3_isWithin.desc).map (fun d => d.parameters.length) = some 2 := by decide +kernel
theorem hd_X3_judged : yX3_judged.cls ≠ "java/lang/invoke/MethodHandle" ∧ yX3_judged.cls ≠ "java/lang/invoke/VarHandle" ∧ (parseMethodDescriptor yX3_judged.desc).map (fun d => d.parameters.length) = some 3 := by decide +kernel
theorem hd_X3_leaves : yX3_leaves.cls ≠ "java/lang/invoke/MethodHandle" ∧ yX3_leaves.cls ≠ "java/lang/invoke/VarHandle" ∧ (parseMethodDescriptor yX3_leaves.desc).map (fun d => d.parameters.length) = some 3 := by decide +kernel
theorem hd_X3_loadOf : yX3_loadOf.cls ≠ "java/lang/invoke/MethodHandle" ∧ yX3_loadOf.cls ≠ "java/lang/invoke/VarHandle" ∧ (parseMethodDescriptor yX3_loadOf.desc).map (fun d => d.parameters.length) = some 2 := by decide +kernel
theorem hd_X3_look : yX3_look.cls ≠ "java/lang/invoke/MethodHandle" ∧ yX3_look.cls ≠ "java/lang/invoke/VarHandle" ∧ (parseMethodDescriptor yX3_look.desc).map (fun d => d.parameters.length) = some 0 := by decide +kernel
theorem hd_X3_mark : yX3_mark.cls ≠ "java/lang/invoke/MethodHandle" ∧ yX3_mark.cls ≠ "java/lang/invoke/VarHandle" ∧ (parseMethodDescriptor yX3_mark.desc).map (fun d => d.parameters.length) = some 1 := by decide +kernel
theorem hd_X3_minute : yX3_minute.cls ≠ "java/lang/invoke/MethodHandle" ∧ yX3_minute.cls ≠ "java/lang/invoke/VarHandle" ∧ (parseMethodDescriptor yX3_minute.desc).map (fun d => d.parameters.length) = some 0 := by decide +kernel
theorem hd_X3_number : yX3_number.cls ≠ "java/lang/invoke/MethodHandle" ∧ yX3_number.cls ≠ "java/lang/invoke/VarHandle" ∧ (parseMethodDescriptor yX3_number.desc).map (fun d => d.parameters.length) = some 1 := by decide +kernel
theorem hd_X3_openAt : yX3_openAt.cls ≠ "java/lang/invoke/MethodHandle" ∧ yX3_openAt.cls ≠ "java/lang/invoke/VarHandle" ∧ (parseMethodDescriptor yX3_openAt.desc).map (fun d => d.parameters.length) = some 1 := by decide +kernel
theorem hd_X3_part : yX3_part.cls ≠ "java/lang/invoke/MethodHandle" ∧ yX3_part.cls ≠ "java/lang/invoke/VarHandle" ∧ (parseMethodDescriptor yX3_part.desc).map (fun d => d.parameters.length) = some 0 := by decide +kernel
theorem hd_X3_partOf : yX3_partOf.cls ≠ "java/lang/invoke/MethodHandle" ∧ yX3_partOf.cls ≠ "java/lang/invoke/VarHandle" ∧ (parseMethodDescriptor yX3_partOf.desc).map (fun d => d.parameters.length) = some 1 := by decide +kernel
theorem hd_X3_plans : yX3_plans.cls ≠ "java/lang/invoke/MethodHandle" ∧ yX3_plans.cls ≠ "java/lang/invoke/VarHandle" ∧ (parseMethodDescriptor yX3_plans.desc).map (fun d => d.parameters.length) = some 4 := by decide +kernel
theorem hd_X3_pointsOf : yX3_pointsOf.cls ≠ "java/lang/invoke/MethodHandle" ∧ yX3_pointsOf.cls ≠ "java/lang/invoke/VarHandle" ∧ (parseMethodDescriptor yX3_pointsOf.desc).map (fun d => d.parameters.length) = some 3 := by decide +kernel
theorem hd_X3_put4 : yX3_put4.cls ≠ "java/lang/invoke/MethodHandle" ∧ yX3_put4.cls ≠ "java/lang/invoke/VarHandle" ∧ (parseMethodDescriptor yX3_put4.desc).map (fun d => d.parameters.length) = some 1 := by decide +kernel
theorem hd_X3_reachOf : yX3_reachOf.cls ≠ "java/lang/invoke/MethodHandle" ∧ yX3_reachOf.cls ≠ "java/lang/invoke/VarHandle" ∧ (parseMethodDescriptor yX3_reachOf.desc).map (fun d => d.parameters.length) = some 2 := by decide +kernel
theorem hd_X3_readyOf : yX3_readyOf.cls ≠ "java/lang/invoke/MethodHandle" ∧ yX3_readyOf.cls ≠ "java/lang/invoke/VarHandle" ∧ (parseMethodDescriptor yX3_readyOf.desc).map (fun d => d.parameters.length) = some 1 := by decide +kernel
theorem hd_X3_rests : yX3_rests.cls ≠ "java/lang/invoke/MethodHandle" ∧ yX3_rests.cls ≠ "java/lang/invoke/VarHandle" ∧ (parseMethodDescriptor yX3_rests.desc).map (fun d => d.parameters.length) = some 2 := by decide +kernel
theorem hd_X3_roomFor : yX3_roomFor.cls ≠ "java/lang/invoke/MethodHandle" ∧ yX3_roomFor.cls ≠ "java/lang/invoke/VarHandle" ∧ (parseMethodDescriptor yX3_roomFor.desc).map (fun d => d.parameters.length) = some 2 := by decide +kernel
theorem hd_X3_save : yX3_save.cls ≠ "java/lang/invoke/MethodHandle" ∧ yX3_save.cls ≠ "java/lang/invoke/VarHandle" ∧ (parseMethodDescriptor yX3_save.desc).map (fun d => d.parameters.length) = some 2 := by decide +kernel
theorem hd_X3_slowOf : yX3_slowOf.cls ≠ "java/lang/invoke/MethodHandle" ∧ yX3_slowOf.cls ≠ "java/lang/invoke/VarHandle" ∧ (parseMethodDescriptor yX3_slowOf.desc).map (fun d => d.parameters.length) = some 1 := by decide +kernel
theorem hd_X3_soonest : yX3_soonest.cls ≠ "java/lang/invoke/MethodHandle" ∧ yX3_soonest.cls ≠ "java/lang/invoke/VarHandle" ∧ (parseMethodDescriptor yX3_soonest.desc).map (fun d => d.parameters.length) = some 2 := by decide +kernel
theorem hd_X3_stop : yX3_stop.cls ≠ "java/lang/invoke/MethodHandle" ∧ yX3_stop.cls ≠ "java/lang/invoke/VarHandle" ∧ (parseMethodDescriptor yX3_stop.desc).map (fun d => d.parameters.length) = some 0 := by decide +kernel
theorem hd_X3_sums : yX3_sums.cls ≠ "java/lang/invoke/MethodHandle" ∧ yX3_sums.cls ≠ "java/lang/invoke/VarHandle" ∧ (parseMethodDescriptor yX3_sums.desc).map (fun d => d.parameters.length) = some 0 := by decide +kernel
theorem hd_X3_takes : yX3_takes.cls ≠ "java/lang/invoke/MethodHandle" ∧ yX3_takes.cls ≠ "java/lang/invoke/VarHandle" ∧ (parseMethodDescriptor yX3_takes.desc).map (fun d => d.parameters.length) = some 1 := by decide +kernel
theorem hd_X3_tell : yX3_tell.cls ≠ "java/lang/invoke/MethodHandle" ∧ yX3_tell.cls ≠ "java/lang/invoke/VarHandle" ∧ (parseMethodDescriptor yX3_tell.desc).map (fun d => d.parameters.length) = some 3 := by decide +kernel
theorem hd_X3_term : yX3_term.cls ≠ "java/lang/invoke/MethodHandle" ∧ yX3_term.cls ≠ "java/lang/invoke/VarHandle" ∧ (parseMethodDescriptor yX3_term.desc).map (fun d => d.parameters.length) = some 0 := by decide +kernel
theorem hd_X3_tours : yX3_tours.cls ≠ "java/lang/invoke/MethodHandle" ∧ yX3_tours.cls ≠ "java/lang/invoke/VarHandle" ∧ (parseMethodDescriptor yX3_tours.desc).map (fun d => d.parameters.length) = some 4 := by decide +kernel
theorem hd_X3_turns : yX3_turns.cls ≠ "java/lang/invoke/MethodHandle" ∧ yX3_turns.cls ≠ "java/lang/invoke/VarHandle" ∧ (parseMethodDescriptor yX3_turns.desc).map (fun d => d.parameters.length) = some 2 := by decide +kernel
theorem hd_X3_unit : yX3_unit.cls ≠ "java/lang/invoke/MethodHandle" ∧ yX3_unit.cls ≠ "java/lang/invoke/VarHandle" ∧ (parseMethodDescriptor yX3_unit.desc).map (fun d => d.parameters.length) = some 0 := by decide +kernel
theorem hd_X3_useOf : yX3_useOf.cls ≠ "java/lang/invoke/MethodHandle" ∧ yX3_useOf.cls ≠ "java/lang/invoke/VarHandle" ∧ (parseMethodDescriptor yX3_useOf.desc).map (fun d => d.parameters.length) = some 2 := by decide +kernel
theorem hd_X3_walkOf : yX3_walkOf.cls ≠ "java/lang/invoke/MethodHandle" ∧ yX3_walkOf.cls ≠ "java/lang/invoke/VarHandle" ∧ (parseMethodDescriptor yX3_walkOf.desc).map (fun d => d.parameters.length) = some 2 := by decide +kernel
theorem hd_X3_wantedAt : yX3_wantedAt.cls ≠ "java/lang/invoke/MethodHandle" ∧ yX3_wantedAt.cls ≠ "java/lang/invoke/VarHandle" ∧ (parseMethodDescriptor yX3_wantedAt.desc).map (fun d => d.parameters.length) = some 2 := by decide +kernel
theorem hd_X3_work : yX3_work.cls ≠ "java/lang/invoke/MethodHandle" ∧ yX3_work.cls ≠ "java/lang/invoke/VarHandle" ∧ (parseMethodDescriptor yX3_work.desc).map (fun d => d.parameters.length) = some 0 := by decide +kernel
theorem hd_X3_worstAt : yX3_worstAt.cls ≠ "java/lang/invoke/MethodHandle" ∧ yX3_worstAt.cls ≠ "java/lang/invoke/VarHandle" ∧ (parseMethodDescriptor yX3_worstAt.desc).map (fun d => d.parameters.length) = some 1 := by decide +kernel
theorem hd_X4_init : yX4_init.cls ≠ "java/lang/invoke/MethodHandle" ∧ yX4_init.cls ≠ "java/lang/invoke/VarHandle" ∧ (parseMethodDescriptor yX4_init.desc).map (fun d => d.parameters.length) = some 3 := by decide +kernel
theorem hd_X4_minutes : yX4_minutes.cls ≠ "java/lang/invoke/MethodHandle" ∧ yX4_minutes.cls ≠ "java/lang/invoke/VarHandle" ∧ (parseMethodDescriptor yX4_minutes.desc).map (fun d => d.parameters.length) = some 2 := by decide +kernel
theorem hd_X5_all : yX5_all.cls ≠ "java/lang/invoke/MethodHandle" ∧ yX5_all.cls ≠ "java/lang/invoke/VarHandle" ∧ (parseMethodDescriptor yX5_all.desc).map (fun d => d.parameters.length) = some 0 := by decide +kernel
theorem hd_X5_bears : yX5_bears.cls ≠ "java/lang/invoke/MethodHandle" ∧ yX5_bears.cls ≠ "java/lang/invoke/VarHandle" ∧ (parseMethodDescriptor yX5_bears.desc).map (fun d => d.parameters.length) = some 0 := by decide +kernel
theorem hd_X5_burning : yX5_burning.cls ≠ "java/lang/invoke/MethodHandle" ∧ yX5_burning.cls ≠ "java/lang/invoke/VarHandle" ∧ (parseMethodDescriptor yX5_burning.desc).map (fun d => d.parameters.length) = some 0 := by decide +kernel
theorem hd_X5_burns : yX5_burns.cls ≠ "java/lang/invoke/MethodHandle" ∧ yX5_burns.cls ≠ "java/lang/invoke/VarHandle" ∧ (parseMethodDescriptor yX5_burns.desc).map (fun d => d.parameters.length) = some 2 := by decide +kernel
theorem hd_X5_floorOf : yX5_floorOf.cls ≠ "java/lang/invoke/MethodHandle" ∧ yX5_floorOf.cls ≠ "java/lang/invoke/VarHandle" ∧ (parseMethodDescriptor yX5_floorOf.desc).map (fun d => d.parameters.length) = some 1 := by decide +kernel
theorem hd_X5_init : yX5_init.cls ≠ "java/lang/invoke/MethodHandle" ∧ yX5_init.cls ≠ "java/lang/invoke/VarHandle" ∧ (parseMethodDescriptor yX5_init.desc).map (fun d => d.parameters.length) = some 5 := by decide +kernel
theorem hd_X5_load : yX5_load.cls ≠ "java/lang/invoke/MethodHandle" ∧ yX5_load.cls ≠ "java/lang/invoke/VarHandle" ∧ (parseMethodDescriptor yX5_load.desc).map (fun d => d.parameters.length) = some 2 := by decide +kernel
theorem hd_X6_init : yX6_init.cls ≠ "java/lang/invoke/MethodHandle" ∧ yX6_init.cls ≠ "java/lang/invoke/VarHandle" ∧ (parseMethodDescriptor yX6_init.desc).map (fun d => d.parameters.length) = some 0 := by decide +kernel
theorem hd_X6_take : yX6_take.cls ≠ "java/lang/invoke/MethodHandle" ∧ yX6_take.cls ≠ "java/lang/invoke/VarHandle" ∧ (parseMethodDescriptor yX6_take.desc).map (fun d => d.parameters.length) = some 1 := by decide +kernel
theorem hd_X7_init : yX7_init.cls ≠ "java/lang/invoke/MethodHandle" ∧ yX7_init.cls ≠ "java/lang/invoke/VarHandle" ∧ (parseMethodDescriptor yX7_init.desc).map (fun d => d.parameters.length) = some 2 := by decide +kernel
theorem hd_X8_best : yX8_best.cls ≠ "java/lang/invoke/MethodHandle" ∧ yX8_best.cls ≠ "java/lang/invoke/VarHandle" ∧ (parseMethodDescriptor yX8_best.desc).map (fun d => d.parameters.length) = some 0 := by decide +kernel
theorem hd_X8_init : yX8_init.cls ≠ "java/lang/invoke/MethodHandle" ∧ yX8_init.cls ≠ "java/lang/invoke/VarHandle" ∧ (parseMethodDescriptor yX8_init.desc).map (fun d => d.parameters.length) = some 5 := by decide +kernel
theorem hd_X8_slow : yX8_slow.cls ≠ "java/lang/invoke/MethodHandle" ∧ yX8_slow.cls ≠ "java/lang/invoke/VarHandle" ∧ (parseMethodDescriptor yX8_slow.desc).map (fun d => d.parameters.length) = some 1 := by decide +kernel
theorem hd_X8_slowNow : yX8_slowNow.cls ≠ "java/lang/invoke/MethodHandle" ∧ yX8_slowNow.cls ≠ "java/lang/invoke/VarHandle" ∧ (parseMethodDescriptor yX8_slowNow.desc).map (fun d => d.parameters.length) = some 0 := by decide +kernel
theorem hd_X8_tire : yX8_tire.cls ≠ "java/lang/invoke/MethodHandle" ∧ yX8_tire.cls ≠ "java/lang/invoke/VarHandle" ∧ (parseMethodDescriptor yX8_tire.desc).map (fun d => d.parameters.length) = some 0 := by decide +kernel
theorem hd_X9_asks : yX9_asks.cls ≠ "java/lang/invoke/MethodHandle" ∧ yX9_asks.cls ≠ "java/lang/invoke/VarHandle" ∧ (parseMethodDescriptor yX9_asks.desc).map (fun d => d.parameters.length) = some 1 := by decide +kernel
theorem hd_X9_gear : yX9_gear.cls ≠ "java/lang/invoke/MethodHandle" ∧ yX9_gear.cls ≠ "java/lang/invoke/VarHandle" ∧ (parseMethodDescriptor yX9_gear.desc).map (fun d => d.parameters.length) = some 3 := by decide +kernel
theorem hd_X9_hose : yX9_hose.cls ≠ "java/lang/invoke/MethodHandle" ∧ yX9_hose.cls ≠ "java/lang/invoke/VarHandle" ∧ (parseMethodDescriptor yX9_hose.desc).map (fun d => d.parameters.length) = some 0 := by decide +kernel
theorem hd_X9_init : yX9_init.cls ≠ "java/lang/invoke/MethodHandle" ∧ yX9_init.cls ≠ "java/lang/invoke/VarHandle" ∧ (parseMethodDescriptor yX9_init.desc).map (fun d => d.parameters.length) = some 5 := by decide +kernel
theorem hd_X9_sort : yX9_sort.cls ≠ "java/lang/invoke/MethodHandle" ∧ yX9_sort.cls ≠ "java/lang/invoke/VarHandle" ∧ (parseMethodDescriptor yX9_sort.desc).map (fun d => d.parameters.length) = some 0 := by decide +kernel
theorem rc_X1 : ∀ c ∈ am_kl 0, ∃ (C1 : String) (T1 : u_T) (N1 : Nat), am_cl[c]? = some (C1, T1, N1) ∧ C1 = RX1 := fun c hc => by
  obtain rfl : c = 0 := List.mem_singleton.mp hc
  exact ⟨RX1, TX1, 58, rfl, rfl⟩
theorem rc_X6 : ∀ c ∈ am_kl 4, ∃ (C1 : String) (T1 : u_T) (N1 : Nat), am_cl[c]? = some (C1, T1, N1) ∧ C1 = RX6 := fun c hc => by
  obtain rfl : c = 4 := List.mem_singleton.mp hc
  exact ⟨RX6, TX6, 7, rfl, rfl⟩
theorem rc_X5 : ∀ c ∈ am_kl 3, ∃ (C1 : String) (T1 : u_T) (N1 : Nat), am_cl[c]? = some (C1, T1, N1) ∧ C1 = RX5 := fun c hc => by
  obtain rfl : c = 3 := List.mem_singleton.mp hc
  exact ⟨RX5, TX5, 16, rfl, rfl⟩
theorem rc_X4 : ∀ c ∈ am_kl 2, ∃ (C1 : String) (T1 : u_T) (N1 : Nat), am_cl[c]? = some (C1, T1, N1) ∧ C1 = RX4 := fun c hc => by
  obtain rfl : c = 2 := List.mem_singleton.mp hc
  exact ⟨RX4, TX4, 5, rfl, rfl⟩
theorem rc_X3 : ∀ c ∈ am_kl 1, ∃ (C1 : String) (T1 : u_T) (N1 : Nat), am_cl[c]? = some (C1, T1, N1) ∧ C1 = RX3 := fun c hc => by
  obtain rfl : c = 1 := List.mem_singleton.mp hc
  exact ⟨RX3, TX3, 121, rfl, rfl⟩
