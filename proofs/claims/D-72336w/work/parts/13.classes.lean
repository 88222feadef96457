/-! the classes' rows -/
theorem wcX0 : wa_C 0 RX0 TX0 12 tyX0 := ⟨rfl, in_X0, tyX0_ok, nmX0⟩
theorem wcX1 : wa_C 1 RX1 TX1 5 tyX1 := ⟨rfl, in_X1, tyX1_ok, nmX1⟩
theorem wcX2 : wa_C 2 RX2 TX2 16 tyX2 := ⟨rfl, in_X2, tyX2_ok, nmX2⟩
theorem wcX3 : wa_C 3 RX3 TX3 1 tyX3 := ⟨rfl, in_X3, tyX3_ok, nmX3⟩
theorem wcX4 : wa_C 4 RX4 TX4 0 tyX4 := ⟨rfl, fun w h => absurd h (by simp [u_ws]), fun k h => absurd h (by omega), fun k h => absurd h (by omega)⟩
theorem wcX5 : wa_C 5 RX5 TX5 2 tyX5 := ⟨rfl, in_X5, tyX5_ok, nmX5⟩
theorem wcX6 : wa_C 6 RX6 TX6 2 tyX6 := ⟨rfl, in_X6, tyX6_ok, nmX6⟩
theorem wcX7 : wa_C 7 RX7 TX7 23 tyX7 := ⟨rfl, in_X7, tyX7_ok, nmX7⟩
theorem wcX8 : wa_C 8 RX8 TX8 4 tyX8 := ⟨rfl, in_X8, tyX8_ok, nmX8⟩
theorem wcX9 : wa_C 9 RX9 TX9 3 tyX9 := ⟨rfl, in_X9, tyX9_ok, nmX9⟩
theorem wcX10 : wa_C 10 RX10 TX10 2 tyX10 := ⟨rfl, in_X10, tyX10_ok, nmX10⟩
theorem wcX11 : wa_C 11 RX11 TX11 4 tyX11 := ⟨rfl, in_X11, tyX11_ok, nmX11⟩
theorem wcX12 : wa_C 12 RX12 TX12 7 tyX12 := ⟨rfl, in_X12, tyX12_ok, nmX12⟩
theorem wcX13 : wa_C 13 RX13 TX13 7 tyX13 := ⟨rfl, in_X13, tyX13_ok, nmX13⟩
theorem wcX14 : wa_C 14 RX14 TX14 7 tyX14 := ⟨rfl, in_X14, tyX14_ok, nmX14⟩
theorem wcJ3 : wa_C 15 RJ3 TJ3 1 tyJ3 := ⟨rfl, in_J3, tyJ3_ok, nmJ3⟩
theorem wcJ5 : wa_C 16 RJ5 TJ5 9 tyJ5 := ⟨rfl, in_J5, tyJ5_ok, nmJ5⟩
theorem wcJ7 : wa_C 17 RJ7 TJ7 4 tyJ7 := ⟨rfl, in_J7, tyJ7_ok, nmJ7⟩
theorem wcJ9 : wa_C 18 RJ9 TJ9 1 tyJ9 := ⟨rfl, in_J9, tyJ9_ok, nmJ9⟩
theorem wcJ10 : wa_C 19 RJ10 TJ10 6 tyJ10 := ⟨rfl, in_J10, tyJ10_ok, nmJ10⟩
theorem wcJ16 : wa_C 20 RJ16 TJ16 1 tyJ16 := ⟨rfl, in_J16, tyJ16_ok, nmJ16⟩
theorem wcJ18 : wa_C 21 RJ18 TJ18 4 tyJ18 := ⟨rfl, in_J18, tyJ18_ok, nmJ18⟩
theorem wcJ15 : wa_C 22 RJ15 TJ15 8 tyJ15 := ⟨rfl, in_J15, tyJ15_ok, nmJ15⟩
