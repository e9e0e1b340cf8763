set_option maxRecDepth 100000
abbrev mX0_init : zMt := (yX0_init, cX0_init, 1, none)
theorem zmh_X0_init : zmh yX0_init 0 := ⟨⟨by decide +kernel, by decide +kernel⟩, by decide +kernel⟩
abbrev mX0_in : zMt := (yX0_in, cX0_in, 3, some .boolean)
theorem zmh_X0_in : zmh yX0_in 3 := ⟨⟨by decide +kernel, by decide +kernel⟩, by decide +kernel⟩
abbrev mX2_init : zMt := (yX2_init, cX2_init, 4, none)
theorem zmh_X2_init : zmh yX2_init 3 := ⟨⟨by decide +kernel, by decide +kernel⟩, by decide +kernel⟩
abbrev mX0_station : zMt := (yX0_station, cX0_station, 4, some .int)
theorem zmh_X0_station : zmh yX0_station 3 := ⟨⟨by decide +kernel, by decide +kernel⟩, by decide +kernel⟩
abbrev mX0_has : zMt := (yX0_has, cX0_has, 2, some .boolean)
theorem zmh_X0_has : zmh yX0_has 2 := ⟨⟨by decide +kernel, by decide +kernel⟩, by decide +kernel⟩
abbrev mX0_plan : zMt := (yX0_plan, cX0_plan, 4, some .int)
theorem zmh_X0_plan : zmh yX0_plan 3 := ⟨⟨by decide +kernel, by decide +kernel⟩, by decide +kernel⟩
abbrev mX3_init : zMt := (yX3_init, cX3_init, 6, none)
theorem zmh_X3_init : zmh yX3_init 5 := ⟨⟨by decide +kernel, by decide +kernel⟩, by decide +kernel⟩
abbrev mX0_fault : zMt := (yX0_fault, cX0_fault, 6, some .int)
theorem zmh_X0_fault : zmh yX0_fault 5 := ⟨⟨by decide +kernel, by decide +kernel⟩, by decide +kernel⟩
abbrev mX0_slow : zMt := (yX0_slow, cX0_slow, 6, some .int)
theorem zmh_X0_slow : zmh yX0_slow 5 := ⟨⟨by decide +kernel, by decide +kernel⟩, by decide +kernel⟩
abbrev mX0_fits : zMt := (yX0_fits, cX0_fits, 4, some .boolean)
theorem zmh_X0_fits : zmh yX0_fits 4 := ⟨⟨by decide +kernel, by decide +kernel⟩, by decide +kernel⟩
abbrev mX4_init : zMt := (yX4_init, cX4_init, 5, none)
theorem zmh_X4_init : zmh yX4_init 4 := ⟨⟨by decide +kernel, by decide +kernel⟩, by decide +kernel⟩
abbrev mX10_init : zMt := (yX10_init, cX10_init, 3, none)
theorem zmh_X10_init : zmh yX10_init 2 := ⟨⟨by decide +kernel, by decide +kernel⟩, by decide +kernel⟩
abbrev mX11_init : zMt := (yX11_init, cX11_init, 4, none)
theorem zmh_X11_init : zmh yX11_init 3 := ⟨⟨by decide +kernel, by decide +kernel⟩, by decide +kernel⟩
abbrev mX12_init : zMt := (yX12_init, cX12_init, 4, none)
theorem zmh_X12_init : zmh yX12_init 2 := ⟨⟨by decide +kernel, by decide +kernel⟩, by decide +kernel⟩
abbrev mX13_init : zMt := (yX13_init, cX13_init, 2, none)
theorem zmh_X13_init : zmh yX13_init 1 := ⟨⟨by decide +kernel, by decide +kernel⟩, by decide +kernel⟩
abbrev mX14_init : zMt := (yX14_init, cX14_init, 4, none)
theorem zmh_X14_init : zmh yX14_init 3 := ⟨⟨by decide +kernel, by decide +kernel⟩, by decide +kernel⟩
abbrev mX5_init : zMt := (yX5_init, cX5_init, 4, none)
theorem zmh_X5_init : zmh yX5_init 3 := ⟨⟨by decide +kernel, by decide +kernel⟩, by decide +kernel⟩
abbrev mX6_init : zMt := (yX6_init, cX6_init, 3, none)
theorem zmh_X6_init : zmh yX6_init 2 := ⟨⟨by decide +kernel, by decide +kernel⟩, by decide +kernel⟩
abbrev mX7_init : zMt := (yX7_init, cX7_init, 3, none)
theorem zmh_X7_init : zmh yX7_init 2 := ⟨⟨by decide +kernel, by decide +kernel⟩, by decide +kernel⟩
abbrev mX8_init : zMt := (yX8_init, cX8_init, 3, none)
theorem zmh_X8_init : zmh yX8_init 2 := ⟨⟨by decide +kernel, by decide +kernel⟩, by decide +kernel⟩
abbrev mX9_init : zMt := (yX9_init, cX9_init, 4, none)
theorem zmh_X9_init : zmh yX9_init 3 := ⟨⟨by decide +kernel, by decide +kernel⟩, by decide +kernel⟩
abbrev mX0_made : zMt := (yX0_made, cX0_made, 4, some (.object "WaterWorks$Guard"))
theorem zmh_X0_made : zmh yX0_made 3 := ⟨⟨by decide +kernel, by decide +kernel⟩, by decide +kernel⟩
abbrev mX0_guard : zMt := (yX0_guard, cX0_guard, 7, some .int)
theorem zmh_X0_guard : zmh yX0_guard 5 := ⟨⟨by decide +kernel, by decide +kernel⟩, by decide +kernel⟩
abbrev mX0_on : zMt := (yX0_on, cX0_on, 3, some .int)
theorem zmh_X0_on : zmh yX0_on 1 := ⟨⟨by decide +kernel, by decide +kernel⟩, by decide +kernel⟩
abbrev mX0_tower : zMt := (yX0_tower, cX0_tower, 3, some .int)
theorem zmh_X0_tower : zmh yX0_tower 0 := ⟨⟨by decide +kernel, by decide +kernel⟩, by decide +kernel⟩
abbrev mX0_order : zMt := (yX0_order, cX0_order, 6, some .int)
theorem zmh_X0_order : zmh yX0_order 5 := ⟨⟨by decide +kernel, by decide +kernel⟩, by decide +kernel⟩
abbrev mX15_init : zMt := (yX15_init, cX15_init, 8, none)
theorem zmh_X15_init : zmh yX15_init 7 := ⟨⟨by decide +kernel, by decide +kernel⟩, by decide +kernel⟩
abbrev mX0_begins : zMt := (yX0_begins, cX0_begins, 7, some .int)
theorem zmh_X0_begins : zmh yX0_begins 5 := ⟨⟨by decide +kernel, by decide +kernel⟩, by decide +kernel⟩
abbrev mX16_init : zMt := (yX16_init, cX16_init, 8, none)
theorem zmh_X16_init : zmh yX16_init 7 := ⟨⟨by decide +kernel, by decide +kernel⟩, by decide +kernel⟩
abbrev mX0_add : zMt := (yX0_add, cX0_add, 7, some (.object "WaterWorks$Call"))
theorem zmh_X0_add : zmh yX0_add 5 := ⟨⟨by decide +kernel, by decide +kernel⟩, by decide +kernel⟩
abbrev mX3_fits : zMt := (yX3_fits, cX3_fits, 4, some .boolean)
theorem zmh_X3_fits : zmh yX3_fits 3 := ⟨⟨by decide +kernel, by decide +kernel⟩, by decide +kernel⟩
abbrev mX0_beginTry : zMt := (yX0_beginTry, cX0_beginTry, 7, none)
theorem zmh_X0_beginTry : zmh yX0_beginTry 4 := ⟨⟨by decide +kernel, by decide +kernel⟩, by decide +kernel⟩
abbrev mX0_begin : zMt := (yX0_begin, cX0_begin, 5, none)
theorem zmh_X0_begin : zmh yX0_begin 3 := ⟨⟨by decide +kernel, by decide +kernel⟩, by decide +kernel⟩
abbrev mX0_goesIn : zMt := (yX0_goesIn, cX0_goesIn, 2, none)
theorem zmh_X0_goesIn : zmh yX0_goesIn 1 := ⟨⟨by decide +kernel, by decide +kernel⟩, by decide +kernel⟩
abbrev mX17_init : zMt := (yX17_init, cX17_init, 6, none)
theorem zmh_X17_init : zmh yX17_init 5 := ⟨⟨by decide +kernel, by decide +kernel⟩, by decide +kernel⟩
abbrev mX0_failed : zMt := (yX0_failed, cX0_failed, 5, some (.object "WaterWorks$Failure"))
theorem zmh_X0_failed : zmh yX0_failed 3 := ⟨⟨by decide +kernel, by decide +kernel⟩, by decide +kernel⟩
abbrev mX0_fails : zMt := (yX0_fails, cX0_fails, 3, none)
theorem zmh_X0_fails : zmh yX0_fails 2 := ⟨⟨by decide +kernel, by decide +kernel⟩, by decide +kernel⟩
abbrev mX0_ended : zMt := (yX0_ended, cX0_ended, 2, none)
theorem zmh_X0_ended : zmh yX0_ended 1 := ⟨⟨by decide +kernel, by decide +kernel⟩, by decide +kernel⟩
abbrev mX0_alike : zMt := (yX0_alike, cX0_alike, 3, none)
theorem zmh_X0_alike : zmh yX0_alike 2 := ⟨⟨by decide +kernel, by decide +kernel⟩, by decide +kernel⟩
abbrev mX0_good : zMt := (yX0_good, cX0_good, 4, none)
theorem zmh_X0_good : zmh yX0_good 3 := ⟨⟨by decide +kernel, by decide +kernel⟩, by decide +kernel⟩
abbrev mX0_isUnder : zMt := (yX0_isUnder, cX0_isUnder, 3, some .boolean)
theorem zmh_X0_isUnder : zmh yX0_isUnder 2 := ⟨⟨by decide +kernel, by decide +kernel⟩, by decide +kernel⟩
abbrev mX16_isUnderWay : zMt := (yX16_isUnderWay, cX16_isUnderWay, 1, some .boolean)
theorem zmh_X16_isUnderWay : zmh yX16_isUnderWay 0 := ⟨⟨by decide +kernel, by decide +kernel⟩, by decide +kernel⟩
abbrev mX16_isWithin : zMt := (yX16_isWithin, cX16_isWithin, 3, some .boolean)
theorem zmh_X16_isWithin : zmh yX16_isWithin 1 := ⟨⟨by decide +kernel, by decide +kernel⟩, by decide +kernel⟩
abbrev mX0_takeBack : zMt := (yX0_takeBack, cX0_takeBack, 4, some .int)
theorem zmh_X0_takeBack : zmh yX0_takeBack 1 := ⟨⟨by decide +kernel, by decide +kernel⟩, by decide +kernel⟩
abbrev mX15_outcome : zMt := (yX15_outcome, cX15_outcome, 1, some .int)
theorem zmh_X15_outcome : zmh yX15_outcome 0 := ⟨⟨by decide +kernel, by decide +kernel⟩, by decide +kernel⟩
abbrev mX0_cancel : zMt := (yX0_cancel, cX0_cancel, 3, some .int)
theorem zmh_X0_cancel : zmh yX0_cancel 1 := ⟨⟨by decide +kernel, by decide +kernel⟩, by decide +kernel⟩
abbrev mX0_second : zMt := (yX0_second, cX0_second, 3, some .int)
theorem zmh_X0_second : zmh yX0_second 1 := ⟨⟨by decide +kernel, by decide +kernel⟩, by decide +kernel⟩
abbrev mX7_newSecond : zMt := (yX7_newSecond, cX7_newSecond, 1, none)
theorem zmh_X7_newSecond : zmh yX7_newSecond 0 := ⟨⟨by decide +kernel, by decide +kernel⟩, by decide +kernel⟩
abbrev mX4_newSecond : zMt := (yX4_newSecond, cX4_newSecond, 1, none)
theorem zmh_X4_newSecond : zmh yX4_newSecond 0 := ⟨⟨by decide +kernel, by decide +kernel⟩, by decide +kernel⟩
abbrev mX21_is : zMt := (yX21_is, cX21_is, 1, some .boolean)
theorem zmh_X21_is : zmh yX21_is 0 := ⟨⟨by decide +kernel, by decide +kernel⟩, by decide +kernel⟩
abbrev mX22_is : zMt := (yX22_is, cX22_is, 1, some .boolean)
theorem zmh_X22_is : zmh yX22_is 0 := ⟨⟨by decide +kernel, by decide +kernel⟩, by decide +kernel⟩
abbrev mX23_is : zMt := (yX23_is, cX23_is, 1, some .boolean)
theorem zmh_X23_is : zmh yX23_is 0 := ⟨⟨by decide +kernel, by decide +kernel⟩, by decide +kernel⟩
abbrev mX24_is : zMt := (yX24_is, cX24_is, 2, some .boolean)
theorem zmh_X24_is : zmh yX24_is 0 := ⟨⟨by decide +kernel, by decide +kernel⟩, by decide +kernel⟩
abbrev mX20_look : zMt := (yX20_look, cX20_look, 1, none)
theorem zmh_X20_look : zmh yX20_look 0 := ⟨⟨by decide +kernel, by decide +kernel⟩, by decide +kernel⟩
abbrev mX0_pass : zMt := (yX0_pass, cX0_pass, 4, none)
theorem zmh_X0_pass : zmh yX0_pass 0 := ⟨⟨by decide +kernel, by decide +kernel⟩, by decide +kernel⟩
abbrev mX0_keyed : zMt := (yX0_keyed, cX0_keyed, 4, some (.object "WaterWorks$Effect"))
theorem zmh_X0_keyed : zmh yX0_keyed 2 := ⟨⟨by decide +kernel, by decide +kernel⟩, by decide +kernel⟩
abbrev mX0_ends : zMt := (yX0_ends, cX0_ends, 5, none)
theorem zmh_X0_ends : zmh yX0_ends 1 := ⟨⟨by decide +kernel, by decide +kernel⟩, by decide +kernel⟩
abbrev mX18_init : zMt := (yX18_init, cX18_init, 5, none)
theorem zmh_X18_init : zmh yX18_init 4 := ⟨⟨by decide +kernel, by decide +kernel⟩, by decide +kernel⟩
abbrev mX0_moves : zMt := (yX0_moves, cX0_moves, 4, none)
theorem zmh_X0_moves : zmh yX0_moves 3 := ⟨⟨by decide +kernel, by decide +kernel⟩, by decide +kernel⟩
abbrev mX0_dueOf : zMt := (yX0_dueOf, cX0_dueOf, 4, none)
theorem zmh_X0_dueOf : zmh yX0_dueOf 1 := ⟨⟨by decide +kernel, by decide +kernel⟩, by decide +kernel⟩
abbrev mX19_init : zMt := (yX19_init, cX19_init, 9, none)
theorem zmh_X19_init : zmh yX19_init 8 := ⟨⟨by decide +kernel, by decide +kernel⟩, by decide +kernel⟩
abbrev mX0_plan_2 : zMt := (yX0_plan_2, cX0_plan_2, 8, some .int)
theorem zmh_X0_plan_2 : zmh yX0_plan_2 7 := ⟨⟨by decide +kernel, by decide +kernel⟩, by decide +kernel⟩
abbrev mX0_stop : zMt := (yX0_stop, cX0_stop, 3, some .int)
theorem zmh_X0_stop : zmh yX0_stop 1 := ⟨⟨by decide +kernel, by decide +kernel⟩, by decide +kernel⟩
abbrev mX0_planned : zMt := (yX0_planned, cX0_planned, 4, some .int)
theorem zmh_X0_planned : zmh yX0_planned 2 := ⟨⟨by decide +kernel, by decide +kernel⟩, by decide +kernel⟩
abbrev mX0_bulkheadOf : zMt := (yX0_bulkheadOf, cX0_bulkheadOf, 4, some (.object "WaterWorks$Bulkhead"))
theorem zmh_X0_bulkheadOf : zmh yX0_bulkheadOf 1 := ⟨⟨by decide +kernel, by decide +kernel⟩, by decide +kernel⟩
abbrev mX0_fuseOf : zMt := (yX0_fuseOf, cX0_fuseOf, 4, some (.object "WaterWorks$Fuse"))
theorem zmh_X0_fuseOf : zmh yX0_fuseOf 1 := ⟨⟨by decide +kernel, by decide +kernel⟩, by decide +kernel⟩
abbrev mX20_init : zMt := (yX20_init, cX20_init, 2, none)
theorem zmh_X20_init : zmh yX20_init 1 := ⟨⟨by decide +kernel, by decide +kernel⟩, by decide +kernel⟩
abbrev mX21_init : zMt := (yX21_init, cX21_init, 3, none)
theorem zmh_X21_init : zmh yX21_init 2 := ⟨⟨by decide +kernel, by decide +kernel⟩, by decide +kernel⟩
abbrev mX22_init : zMt := (yX22_init, cX22_init, 4, none)
theorem zmh_X22_init : zmh yX22_init 3 := ⟨⟨by decide +kernel, by decide +kernel⟩, by decide +kernel⟩
abbrev mX23_init : zMt := (yX23_init, cX23_init, 4, none)
theorem zmh_X23_init : zmh yX23_init 3 := ⟨⟨by decide +kernel, by decide +kernel⟩, by decide +kernel⟩
abbrev mX24_init : zMt := (yX24_init, cX24_init, 3, none)
theorem zmh_X24_init : zmh yX24_init 2 := ⟨⟨by decide +kernel, by decide +kernel⟩, by decide +kernel⟩
abbrev mX0_alarm : zMt := (yX0_alarm, cX0_alarm, 4, some .int)
theorem zmh_X0_alarm : zmh yX0_alarm 3 := ⟨⟨by decide +kernel, by decide +kernel⟩, by decide +kernel⟩
abbrev mX0_alarmed : zMt := (yX0_alarmed, cX0_alarmed, 4, some .int)
theorem zmh_X0_alarmed : zmh yX0_alarmed 2 := ⟨⟨by decide +kernel, by decide +kernel⟩, by decide +kernel⟩
abbrev mX0_now : zMt := (yX0_now, cX0_now, 1, some .int)
theorem zmh_X0_now : zmh yX0_now 0 := ⟨⟨by decide +kernel, by decide +kernel⟩, by decide +kernel⟩
abbrev mX0_outcome : zMt := (yX0_outcome, cX0_outcome, 2, some .int)
theorem zmh_X0_outcome : zmh yX0_outcome 1 := ⟨⟨by decide +kernel, by decide +kernel⟩, by decide +kernel⟩
abbrev mX17_numberOf : zMt := (yX17_numberOf, cX17_numberOf, 1, some .int)
theorem zmh_X17_numberOf : zmh yX17_numberOf 1 := ⟨⟨by decide +kernel, by decide +kernel⟩, by decide +kernel⟩
abbrev mX0_of : zMt := (yX0_of, cX0_of, 4, some .int)
theorem zmh_X0_of : zmh yX0_of 2 := ⟨⟨by decide +kernel, by decide +kernel⟩, by decide +kernel⟩
abbrev mX0_failure : zMt := (yX0_failure, cX0_failure, 4, some .int)
theorem zmh_X0_failure : zmh yX0_failure 2 := ⟨⟨by decide +kernel, by decide +kernel⟩, by decide +kernel⟩
abbrev mX0_call : zMt := (yX0_call, cX0_call, 4, some .int)
theorem zmh_X0_call : zmh yX0_call 2 := ⟨⟨by decide +kernel, by decide +kernel⟩, by decide +kernel⟩
abbrev mX0_fuse : zMt := (yX0_fuse, cX0_fuse, 4, some .int)
theorem zmh_X0_fuse : zmh yX0_fuse 2 := ⟨⟨by decide +kernel, by decide +kernel⟩, by decide +kernel⟩
abbrev mX0_bulkhead : zMt := (yX0_bulkhead, cX0_bulkhead, 4, some .int)
theorem zmh_X0_bulkhead : zmh yX0_bulkhead 2 := ⟨⟨by decide +kernel, by decide +kernel⟩, by decide +kernel⟩
abbrev mX0_waiting : zMt := (yX0_waiting, cX0_waiting, 4, some .int)
theorem zmh_X0_waiting : zmh yX0_waiting 2 := ⟨⟨by decide +kernel, by decide +kernel⟩, by decide +kernel⟩
abbrev mX0_tokens : zMt := (yX0_tokens, cX0_tokens, 4, some .int)
theorem zmh_X0_tokens : zmh yX0_tokens 1 := ⟨⟨by decide +kernel, by decide +kernel⟩, by decide +kernel⟩
abbrev mX0_kept : zMt := (yX0_kept, cX0_kept, 6, some .int)
theorem zmh_X0_kept : zmh yX0_kept 3 := ⟨⟨by decide +kernel, by decide +kernel⟩, by decide +kernel⟩
abbrev mX0_joined : zMt := (yX0_joined, cX0_joined, 5, some .int)
theorem zmh_X0_joined : zmh yX0_joined 2 := ⟨⟨by decide +kernel, by decide +kernel⟩, by decide +kernel⟩
abbrev mX0_level : zMt := (yX0_level, cX0_level, 2, some .int)
theorem zmh_X0_level : zmh yX0_level 1 := ⟨⟨by decide +kernel, by decide +kernel⟩, by decide +kernel⟩
abbrev mX0_effect : zMt := (yX0_effect, cX0_effect, 4, some .int)
theorem zmh_X0_effect : zmh yX0_effect 2 := ⟨⟨by decide +kernel, by decide +kernel⟩, by decide +kernel⟩
abbrev mX0_isOf : zMt := (yX0_isOf, cX0_isOf, 3, some .int)
theorem zmh_X0_isOf : zmh yX0_isOf 2 := ⟨⟨by decide +kernel, by decide +kernel⟩, by decide +kernel⟩
abbrev mX0_count : zMt := (yX0_count, cX0_count, 4, some .int)
theorem zmh_X0_count : zmh yX0_count 1 := ⟨⟨by decide +kernel, by decide +kernel⟩, by decide +kernel⟩
abbrev mX16_other : zMt := (yX16_other, cX16_other, 3, some (.object "WaterWorks$Call"))
theorem zmh_X16_other : zmh yX16_other 1 := ⟨⟨by decide +kernel, by decide +kernel⟩, by decide +kernel⟩
abbrev mX17_suppressed : zMt := (yX17_suppressed, cX17_suppressed, 2, none)
theorem zmh_X17_suppressed : zmh yX17_suppressed 1 := ⟨⟨by decide +kernel, by decide +kernel⟩, by decide +kernel⟩
abbrev mX10_told : zMt := (yX10_told, cX10_told, 4, none)
theorem zmh_X10_told : zmh yX10_told 2 := ⟨⟨by decide +kernel, by decide +kernel⟩, by decide +kernel⟩
abbrev mX10_begins : zMt := (yX10_begins, cX10_begins, 2, none)
theorem zmh_X10_begins : zmh yX10_begins 1 := ⟨⟨by decide +kernel, by decide +kernel⟩, by decide +kernel⟩
abbrev mX10_due : zMt := (yX10_due, cX10_due, 2, none)
theorem zmh_X10_due : zmh yX10_due 1 := ⟨⟨by decide +kernel, by decide +kernel⟩, by decide +kernel⟩
abbrev mX4_names : zMt := (yX4_names, cX4_names, 2, some .boolean)
theorem zmh_X4_names : zmh yX4_names 1 := ⟨⟨by decide +kernel, by decide +kernel⟩, by decide +kernel⟩
abbrev mX11_told : zMt := (yX11_told, cX11_told, 3, none)
theorem zmh_X11_told : zmh yX11_told 2 := ⟨⟨by decide +kernel, by decide +kernel⟩, by decide +kernel⟩
abbrev mX12_told : zMt := (yX12_told, cX12_told, 4, none)
theorem zmh_X12_told : zmh yX12_told 2 := ⟨⟨by decide +kernel, by decide +kernel⟩, by decide +kernel⟩
abbrev mX12_begins : zMt := (yX12_begins, cX12_begins, 3, none)
theorem zmh_X12_begins : zmh yX12_begins 1 := ⟨⟨by decide +kernel, by decide +kernel⟩, by decide +kernel⟩
abbrev mX13_takenBack : zMt := (yX13_takenBack, cX13_takenBack, 3, none)
theorem zmh_X13_takenBack : zmh yX13_takenBack 1 := ⟨⟨by decide +kernel, by decide +kernel⟩, by decide +kernel⟩
abbrev mX13_told : zMt := (yX13_told, cX13_told, 4, none)
theorem zmh_X13_told : zmh yX13_told 2 := ⟨⟨by decide +kernel, by decide +kernel⟩, by decide +kernel⟩
abbrev mX15_isLike : zMt := (yX15_isLike, cX15_isLike, 2, some .boolean)
theorem zmh_X15_isLike : zmh yX15_isLike 1 := ⟨⟨by decide +kernel, by decide +kernel⟩, by decide +kernel⟩
abbrev mX13_leader : zMt := (yX13_leader, cX13_leader, 4, some (.object "WaterWorks$Call"))
theorem zmh_X13_leader : zmh yX13_leader 1 := ⟨⟨by decide +kernel, by decide +kernel⟩, by decide +kernel⟩
abbrev mX13_begins : zMt := (yX13_begins, cX13_begins, 2, none)
theorem zmh_X13_begins : zmh yX13_begins 1 := ⟨⟨by decide +kernel, by decide +kernel⟩, by decide +kernel⟩
abbrev mX14_told : zMt := (yX14_told, cX14_told, 4, none)
theorem zmh_X14_told : zmh yX14_told 2 := ⟨⟨by decide +kernel, by decide +kernel⟩, by decide +kernel⟩
abbrev mX19_pass : zMt := (yX19_pass, cX19_pass, 1, none)
theorem zmh_X19_pass : zmh yX19_pass 0 := ⟨⟨by decide +kernel, by decide +kernel⟩, by decide +kernel⟩
abbrev mX4_refuses : zMt := (yX4_refuses, cX4_refuses, 3, none)
theorem zmh_X4_refuses : zmh yX4_refuses 2 := ⟨⟨by decide +kernel, by decide +kernel⟩, by decide +kernel⟩
abbrev mX4_takenBack : zMt := (yX4_takenBack, cX4_takenBack, 2, none)
theorem zmh_X4_takenBack : zmh yX4_takenBack 1 := ⟨⟨by decide +kernel, by decide +kernel⟩, by decide +kernel⟩
abbrev mX4_told : zMt := (yX4_told, cX4_told, 3, none)
theorem zmh_X4_told : zmh yX4_told 2 := ⟨⟨by decide +kernel, by decide +kernel⟩, by decide +kernel⟩
abbrev mX4_begins : zMt := (yX4_begins, cX4_begins, 2, none)
theorem zmh_X4_begins : zmh yX4_begins 1 := ⟨⟨by decide +kernel, by decide +kernel⟩, by decide +kernel⟩
abbrev mX4_due : zMt := (yX4_due, cX4_due, 2, none)
theorem zmh_X4_due : zmh yX4_due 1 := ⟨⟨by decide +kernel, by decide +kernel⟩, by decide +kernel⟩
abbrev mX5_closes : zMt := (yX5_closes, cX5_closes, 1, none)
theorem zmh_X5_closes : zmh yX5_closes 0 := ⟨⟨by decide +kernel, by decide +kernel⟩, by decide +kernel⟩
abbrev mX5_opens : zMt := (yX5_opens, cX5_opens, 2, none)
theorem zmh_X5_opens : zmh yX5_opens 1 := ⟨⟨by decide +kernel, by decide +kernel⟩, by decide +kernel⟩
abbrev mX5_told : zMt := (yX5_told, cX5_told, 3, none)
theorem zmh_X5_told : zmh yX5_told 2 := ⟨⟨by decide +kernel, by decide +kernel⟩, by decide +kernel⟩
abbrev mX5_takenBack : zMt := (yX5_takenBack, cX5_takenBack, 2, none)
theorem zmh_X5_takenBack : zmh yX5_takenBack 1 := ⟨⟨by decide +kernel, by decide +kernel⟩, by decide +kernel⟩
abbrev mX5_begins : zMt := (yX5_begins, cX5_begins, 2, none)
theorem zmh_X5_begins : zmh yX5_begins 1 := ⟨⟨by decide +kernel, by decide +kernel⟩, by decide +kernel⟩
abbrev mX6_begins : zMt := (yX6_begins, cX6_begins, 2, none)
theorem zmh_X6_begins : zmh yX6_begins 1 := ⟨⟨by decide +kernel, by decide +kernel⟩, by decide +kernel⟩
abbrev mX6_works : zMt := (yX6_works, cX6_works, 2, none)
theorem zmh_X6_works : zmh yX6_works 1 := ⟨⟨by decide +kernel, by decide +kernel⟩, by decide +kernel⟩
abbrev mX6_told : zMt := (yX6_told, cX6_told, 3, none)
theorem zmh_X6_told : zmh yX6_told 2 := ⟨⟨by decide +kernel, by decide +kernel⟩, by decide +kernel⟩
abbrev mX6_takenBack : zMt := (yX6_takenBack, cX6_takenBack, 2, none)
theorem zmh_X6_takenBack : zmh yX6_takenBack 1 := ⟨⟨by decide +kernel, by decide +kernel⟩, by decide +kernel⟩
abbrev mX6_letsIn : zMt := (yX6_letsIn, cX6_letsIn, 2, none)
theorem zmh_X6_letsIn : zmh yX6_letsIn 0 := ⟨⟨by decide +kernel, by decide +kernel⟩, by decide +kernel⟩
abbrev mX7_begins : zMt := (yX7_begins, cX7_begins, 2, none)
theorem zmh_X7_begins : zmh yX7_begins 1 := ⟨⟨by decide +kernel, by decide +kernel⟩, by decide +kernel⟩
abbrev mX8_begins : zMt := (yX8_begins, cX8_begins, 2, none)
theorem zmh_X8_begins : zmh yX8_begins 1 := ⟨⟨by decide +kernel, by decide +kernel⟩, by decide +kernel⟩
abbrev mX8_due : zMt := (yX8_due, cX8_due, 2, none)
theorem zmh_X8_due : zmh yX8_due 1 := ⟨⟨by decide +kernel, by decide +kernel⟩, by decide +kernel⟩
abbrev mX9_told : zMt := (yX9_told, cX9_told, 5, none)
theorem zmh_X9_told : zmh yX9_told 2 := ⟨⟨by decide +kernel, by decide +kernel⟩, by decide +kernel⟩
abbrev mX9_due : zMt := (yX9_due, cX9_due, 2, none)
theorem zmh_X9_due : zmh yX9_due 1 := ⟨⟨by decide +kernel, by decide +kernel⟩, by decide +kernel⟩
def vt_begins (k : Nat) : zMt := match k with
  | 10 => mX5_begins
  | 11 => mX6_begins
  | 12 => mX7_begins
  | 13 => mX8_begins
  | 14 => mX4_begins
  | 15 => mX10_begins
  | 16 => mX4_begins
  | 17 => mX12_begins
  | 18 => mX13_begins
  | 19 => mX4_begins
  | _ => mX5_begins
theorem b_d_begins {d : Nat} {mt : zMt} {pc : Nat} {lv : List (Nat × AV)} {st : List AV} {M : Mem} {Q : Option AV → Mem → Prop} {e x : Nat × Nat} {index : Nat} (hk : gk e.1) (hlink : Cond.methodLink mt.1.cls index ⟨"WaterWorks$Guard", "begins", "(LWaterWorks$Call;)V"⟩ ∈ lw_all) (hst : st.length ≤ 8) (hd : decode mt.2.1 pc = .ok (.invokevirtual index, 3))
    (h : cq d (vt_begins e.1) [.inr e, .inr x] M (fun r M' => wq (d + 1) mt (pc + 3) lv (r.toList ++ st) M' Q)) : wq (d + 1) mt pc lv (.inr x :: .inr e :: st) M Q := by
  obtain ⟨k, i⟩ := e
  intro M0 A
  have h2 := (h M0 A).mono (Q' := fun r M' => wp (d + 1) mt (pc + 3) lv (r.toList ++ st) M' (QQ Q)) (fun r M' ⟨_, A', hw⟩ => hw M' A')
  clear h
  dsimp only at hk h2
  rcases gkc hk with e | e | e | e | e | e | e | e | e | e <;> subst e
  · exact a_cu (x := ⟨"WaterWorks$Guard", "begins", "(LWaterWorks$Call;)V"⟩) (owner := "WaterWorks$Guard") (y := mX5_begins) (k := 10) (i := i) (as := [.inr x]) (n := 1) (Nat.succ_ne_zero _) hlink q1077 q1078 q81 q1079 q831 (Or.inl ⟨_, _, _, q830, q1114⟩) zmh_X4_begins rfl (Nat.le_of_ble_eq_true rfl) hst hd h2
  · exact a_cu (x := ⟨"WaterWorks$Guard", "begins", "(LWaterWorks$Call;)V"⟩) (owner := "WaterWorks$Guard") (y := mX6_begins) (k := 11) (i := i) (as := [.inr x]) (n := 1) (Nat.succ_ne_zero _) hlink q832 q833 q82 q834 q831 (Or.inl ⟨_, _, _, q830, q1114⟩) zmh_X4_begins rfl (Nat.le_of_ble_eq_true rfl) hst hd h2
  · exact a_cu (x := ⟨"WaterWorks$Guard", "begins", "(LWaterWorks$Call;)V"⟩) (owner := "WaterWorks$Guard") (y := mX7_begins) (k := 12) (i := i) (as := [.inr x]) (n := 1) (Nat.succ_ne_zero _) hlink q1100 q1101 q83 q1102 q831 (Or.inl ⟨_, _, _, q830, q1114⟩) zmh_X4_begins rfl (Nat.le_of_ble_eq_true rfl) hst hd h2
  · exact a_cu (x := ⟨"WaterWorks$Guard", "begins", "(LWaterWorks$Call;)V"⟩) (owner := "WaterWorks$Guard") (y := mX8_begins) (k := 13) (i := i) (as := [.inr x]) (n := 1) (Nat.succ_ne_zero _) hlink q1072 q1073 q84 q1074 q831 (Or.inl ⟨_, _, _, q830, q1114⟩) zmh_X4_begins rfl (Nat.le_of_ble_eq_true rfl) hst hd h2
  · exact a_cu (x := ⟨"WaterWorks$Guard", "begins", "(LWaterWorks$Call;)V"⟩) (owner := "WaterWorks$Guard") (y := mX4_begins) (k := 14) (i := i) (as := [.inr x]) (n := 1) (Nat.succ_ne_zero _) hlink q1112 q830 q80 q1114 q831 (Or.inl ⟨_, _, _, q830, q1114⟩) zmh_X4_begins rfl (Nat.le_of_ble_eq_true rfl) hst hd h2
  · exact a_cu (x := ⟨"WaterWorks$Guard", "begins", "(LWaterWorks$Call;)V"⟩) (owner := "WaterWorks$Guard") (y := mX10_begins) (k := 15) (i := i) (as := [.inr x]) (n := 1) (Nat.succ_ne_zero _) hlink q1084 q1085 q86 q1086 q831 (Or.inl ⟨_, _, _, q830, q1114⟩) zmh_X4_begins rfl (Nat.le_of_ble_eq_true rfl) hst hd h2
  · exact a_cu (x := ⟨"WaterWorks$Guard", "begins", "(LWaterWorks$Call;)V"⟩) (owner := "WaterWorks$Guard") (y := mX4_begins) (k := 16) (i := i) (as := [.inr x]) (n := 1) (Nat.succ_ne_zero _) hlink q1076 q830 q80 q1114 q831 (Or.inl ⟨_, _, _, q830, q1114⟩) zmh_X4_begins rfl (Nat.le_of_ble_eq_true rfl) hst hd h2
  · exact a_cu (x := ⟨"WaterWorks$Guard", "begins", "(LWaterWorks$Call;)V"⟩) (owner := "WaterWorks$Guard") (y := mX12_begins) (k := 17) (i := i) (as := [.inr x]) (n := 1) (Nat.succ_ne_zero _) hlink q1107 q1108 q88 q1109 q831 (Or.inl ⟨_, _, _, q830, q1114⟩) zmh_X4_begins rfl (Nat.le_of_ble_eq_true rfl) hst hd h2
  · exact a_cu (x := ⟨"WaterWorks$Guard", "begins", "(LWaterWorks$Call;)V"⟩) (owner := "WaterWorks$Guard") (y := mX13_begins) (k := 18) (i := i) (as := [.inr x]) (n := 1) (Nat.succ_ne_zero _) hlink q1088 q1089 q89 q1090 q831 (Or.inl ⟨_, _, _, q830, q1114⟩) zmh_X4_begins rfl (Nat.le_of_ble_eq_true rfl) hst hd h2
  · exact a_cu (x := ⟨"WaterWorks$Guard", "begins", "(LWaterWorks$Call;)V"⟩) (owner := "WaterWorks$Guard") (y := mX4_begins) (k := 19) (i := i) (as := [.inr x]) (n := 1) (Nat.succ_ne_zero _) hlink q1113 q830 q80 q1114 q831 (Or.inl ⟨_, _, _, q830, q1114⟩) zmh_X4_begins rfl (Nat.le_of_ble_eq_true rfl) hst hd h2
def vt_told (k : Nat) : zMt := match k with
  | 10 => mX5_told
  | 11 => mX6_told
  | 12 => mX4_told
  | 13 => mX4_told
  | 14 => mX9_told
  | 15 => mX10_told
  | 16 => mX11_told
  | 17 => mX12_told
  | 18 => mX13_told
  | 19 => mX14_told
  | _ => mX5_told
theorem b_d_told {d : Nat} {mt : zMt} {pc : Nat} {lv : List (Nat × AV)} {st : List AV} {M : Mem} {Q : Option AV → Mem → Prop} {e x y : Nat × Nat} {index : Nat} (hk : gk e.1) (hlink : Cond.methodLink mt.1.cls index ⟨"WaterWorks$Guard", "told", "(LWaterWorks$Call;LWaterWorks$Call;)V"⟩ ∈ lw_all) (hst : st.length ≤ 8) (hd : decode mt.2.1 pc = .ok (.invokevirtual index, 3))
    (h : cq d (vt_told e.1) [.inr e, .inr x, .inr y] M (fun r M' => wq (d + 1) mt (pc + 3) lv (r.toList ++ st) M' Q)) : wq (d + 1) mt pc lv (.inr y :: .inr x :: .inr e :: st) M Q := by
  obtain ⟨k, i⟩ := e
  intro M0 A
  have h2 := (h M0 A).mono (Q' := fun r M' => wp (d + 1) mt (pc + 3) lv (r.toList ++ st) M' (QQ Q)) (fun r M' ⟨_, A', hw⟩ => hw M' A')
  clear h
  dsimp only at hk h2
  rcases gkc hk with e | e | e | e | e | e | e | e | e | e <;> subst e
  · exact a_cu (x := ⟨"WaterWorks$Guard", "told", "(LWaterWorks$Call;LWaterWorks$Call;)V"⟩) (owner := "WaterWorks$Guard") (y := mX5_told) (k := 10) (i := i) (as := [.inr x, .inr y]) (n := 2) (Nat.succ_ne_zero _) hlink q934 q935 q81 q936 q901 (Or.inl ⟨_, _, _, q900, q1070⟩) zmh_X4_told rfl (Nat.le_of_ble_eq_true rfl) hst hd h2
  · exact a_cu (x := ⟨"WaterWorks$Guard", "told", "(LWaterWorks$Call;LWaterWorks$Call;)V"⟩) (owner := "WaterWorks$Guard") (y := mX6_told) (k := 11) (i := i) (as := [.inr x, .inr y]) (n := 2) (Nat.succ_ne_zero _) hlink q902 q903 q82 q904 q901 (Or.inl ⟨_, _, _, q900, q1070⟩) zmh_X4_told rfl (Nat.le_of_ble_eq_true rfl) hst hd h2
  · exact a_cu (x := ⟨"WaterWorks$Guard", "told", "(LWaterWorks$Call;LWaterWorks$Call;)V"⟩) (owner := "WaterWorks$Guard") (y := mX4_told) (k := 12) (i := i) (as := [.inr x, .inr y]) (n := 2) (Nat.succ_ne_zero _) hlink q1045 q900 q80 q1070 q901 (Or.inl ⟨_, _, _, q900, q1070⟩) zmh_X4_told rfl (Nat.le_of_ble_eq_true rfl) hst hd h2
  · exact a_cu (x := ⟨"WaterWorks$Guard", "told", "(LWaterWorks$Call;LWaterWorks$Call;)V"⟩) (owner := "WaterWorks$Guard") (y := mX4_told) (k := 13) (i := i) (as := [.inr x, .inr y]) (n := 2) (Nat.succ_ne_zero _) hlink q914 q900 q80 q1070 q901 (Or.inl ⟨_, _, _, q900, q1070⟩) zmh_X4_told rfl (Nat.le_of_ble_eq_true rfl) hst hd h2
  · exact a_cu (x := ⟨"WaterWorks$Guard", "told", "(LWaterWorks$Call;LWaterWorks$Call;)V"⟩) (owner := "WaterWorks$Guard") (y := mX9_told) (k := 14) (i := i) (as := [.inr x, .inr y]) (n := 2) (Nat.succ_ne_zero _) hlink q1050 q1051 q85 q1052 q901 (Or.inl ⟨_, _, _, q900, q1070⟩) zmh_X4_told rfl (Nat.le_of_ble_eq_true rfl) hst hd h2
  · exact a_cu (x := ⟨"WaterWorks$Guard", "told", "(LWaterWorks$Call;LWaterWorks$Call;)V"⟩) (owner := "WaterWorks$Guard") (y := mX10_told) (k := 15) (i := i) (as := [.inr x, .inr y]) (n := 2) (Nat.succ_ne_zero _) hlink q949 q950 q86 q951 q901 (Or.inl ⟨_, _, _, q900, q1070⟩) zmh_X4_told rfl (Nat.le_of_ble_eq_true rfl) hst hd h2
  · exact a_cu (x := ⟨"WaterWorks$Guard", "told", "(LWaterWorks$Call;LWaterWorks$Call;)V"⟩) (owner := "WaterWorks$Guard") (y := mX11_told) (k := 16) (i := i) (as := [.inr x, .inr y]) (n := 2) (Nat.succ_ne_zero _) hlink q915 q916 q87 q917 q901 (Or.inl ⟨_, _, _, q900, q1070⟩) zmh_X4_told rfl (Nat.le_of_ble_eq_true rfl) hst hd h2
  · exact a_cu (x := ⟨"WaterWorks$Guard", "told", "(LWaterWorks$Call;LWaterWorks$Call;)V"⟩) (owner := "WaterWorks$Guard") (y := mX12_told) (k := 17) (i := i) (as := [.inr x, .inr y]) (n := 2) (Nat.succ_ne_zero _) hlink q1046 q1047 q88 q1048 q901 (Or.inl ⟨_, _, _, q900, q1070⟩) zmh_X4_told rfl (Nat.le_of_ble_eq_true rfl) hst hd h2
  · exact a_cu (x := ⟨"WaterWorks$Guard", "told", "(LWaterWorks$Call;LWaterWorks$Call;)V"⟩) (owner := "WaterWorks$Guard") (y := mX13_told) (k := 18) (i := i) (as := [.inr x, .inr y]) (n := 2) (Nat.succ_ne_zero _) hlink q1041 q1042 q89 q1043 q901 (Or.inl ⟨_, _, _, q900, q1070⟩) zmh_X4_told rfl (Nat.le_of_ble_eq_true rfl) hst hd h2
  · exact a_cu (x := ⟨"WaterWorks$Guard", "told", "(LWaterWorks$Call;LWaterWorks$Call;)V"⟩) (owner := "WaterWorks$Guard") (y := mX14_told) (k := 19) (i := i) (as := [.inr x, .inr y]) (n := 2) (Nat.succ_ne_zero _) hlink q1061 q1062 q90 q1063 q901 (Or.inl ⟨_, _, _, q900, q1070⟩) zmh_X4_told rfl (Nat.le_of_ble_eq_true rfl) hst hd h2
def vt_takenBack (k : Nat) : zMt := match k with
  | 10 => mX5_takenBack
  | 11 => mX6_takenBack
  | 12 => mX4_takenBack
  | 13 => mX4_takenBack
  | 14 => mX4_takenBack
  | 15 => mX4_takenBack
  | 16 => mX4_takenBack
  | 17 => mX4_takenBack
  | 18 => mX13_takenBack
  | 19 => mX4_takenBack
  | _ => mX5_takenBack
theorem b_d_takenBack {d : Nat} {mt : zMt} {pc : Nat} {lv : List (Nat × AV)} {st : List AV} {M : Mem} {Q : Option AV → Mem → Prop} {e x : Nat × Nat} {index : Nat} (hk : gk e.1) (hlink : Cond.methodLink mt.1.cls index ⟨"WaterWorks$Guard", "takenBack", "(LWaterWorks$Call;)V"⟩ ∈ lw_all) (hst : st.length ≤ 8) (hd : decode mt.2.1 pc = .ok (.invokevirtual index, 3))
    (h : cq d (vt_takenBack e.1) [.inr e, .inr x] M (fun r M' => wq (d + 1) mt (pc + 3) lv (r.toList ++ st) M' Q)) : wq (d + 1) mt pc lv (.inr x :: .inr e :: st) M Q := by
  obtain ⟨k, i⟩ := e
  intro M0 A
  have h2 := (h M0 A).mono (Q' := fun r M' => wp (d + 1) mt (pc + 3) lv (r.toList ++ st) M' (QQ Q)) (fun r M' ⟨_, A', hw⟩ => hw M' A')
  clear h
  dsimp only at hk h2
  rcases gkc hk with e | e | e | e | e | e | e | e | e | e <;> subst e
  · exact a_cu (x := ⟨"WaterWorks$Guard", "takenBack", "(LWaterWorks$Call;)V"⟩) (owner := "WaterWorks$Guard") (y := mX5_takenBack) (k := 10) (i := i) (as := [.inr x]) (n := 1) (Nat.succ_ne_zero _) hlink q1017 q1018 q81 q1019 q974 (Or.inl ⟨_, _, _, q973, q1035⟩) zmh_X4_takenBack rfl (Nat.le_of_ble_eq_true rfl) hst hd h2
  · exact a_cu (x := ⟨"WaterWorks$Guard", "takenBack", "(LWaterWorks$Call;)V"⟩) (owner := "WaterWorks$Guard") (y := mX6_takenBack) (k := 11) (i := i) (as := [.inr x]) (n := 1) (Nat.succ_ne_zero _) hlink q975 q976 q82 q977 q974 (Or.inl ⟨_, _, _, q973, q1035⟩) zmh_X4_takenBack rfl (Nat.le_of_ble_eq_true rfl) hst hd h2
  · exact a_cu (x := ⟨"WaterWorks$Guard", "takenBack", "(LWaterWorks$Call;)V"⟩) (owner := "WaterWorks$Guard") (y := mX4_takenBack) (k := 12) (i := i) (as := [.inr x]) (n := 1) (Nat.succ_ne_zero _) hlink q1031 q973 q80 q1035 q974 (Or.inl ⟨_, _, _, q973, q1035⟩) zmh_X4_takenBack rfl (Nat.le_of_ble_eq_true rfl) hst hd h2
  · exact a_cu (x := ⟨"WaterWorks$Guard", "takenBack", "(LWaterWorks$Call;)V"⟩) (owner := "WaterWorks$Guard") (y := mX4_takenBack) (k := 13) (i := i) (as := [.inr x]) (n := 1) (Nat.succ_ne_zero _) hlink q1015 q973 q80 q1035 q974 (Or.inl ⟨_, _, _, q973, q1035⟩) zmh_X4_takenBack rfl (Nat.le_of_ble_eq_true rfl) hst hd h2
  · exact a_cu (x := ⟨"WaterWorks$Guard", "takenBack", "(LWaterWorks$Call;)V"⟩) (owner := "WaterWorks$Guard") (y := mX4_takenBack) (k := 14) (i := i) (as := [.inr x]) (n := 1) (Nat.succ_ne_zero _) hlink q1033 q973 q80 q1035 q974 (Or.inl ⟨_, _, _, q973, q1035⟩) zmh_X4_takenBack rfl (Nat.le_of_ble_eq_true rfl) hst hd h2
  · exact a_cu (x := ⟨"WaterWorks$Guard", "takenBack", "(LWaterWorks$Call;)V"⟩) (owner := "WaterWorks$Guard") (y := mX4_takenBack) (k := 15) (i := i) (as := [.inr x]) (n := 1) (Nat.succ_ne_zero _) hlink q1020 q973 q80 q1035 q974 (Or.inl ⟨_, _, _, q973, q1035⟩) zmh_X4_takenBack rfl (Nat.le_of_ble_eq_true rfl) hst hd h2
  · exact a_cu (x := ⟨"WaterWorks$Guard", "takenBack", "(LWaterWorks$Call;)V"⟩) (owner := "WaterWorks$Guard") (y := mX4_takenBack) (k := 16) (i := i) (as := [.inr x]) (n := 1) (Nat.succ_ne_zero _) hlink q1016 q973 q80 q1035 q974 (Or.inl ⟨_, _, _, q973, q1035⟩) zmh_X4_takenBack rfl (Nat.le_of_ble_eq_true rfl) hst hd h2
  · exact a_cu (x := ⟨"WaterWorks$Guard", "takenBack", "(LWaterWorks$Call;)V"⟩) (owner := "WaterWorks$Guard") (y := mX4_takenBack) (k := 17) (i := i) (as := [.inr x]) (n := 1) (Nat.succ_ne_zero _) hlink q1032 q973 q80 q1035 q974 (Or.inl ⟨_, _, _, q973, q1035⟩) zmh_X4_takenBack rfl (Nat.le_of_ble_eq_true rfl) hst hd h2
  · exact a_cu (x := ⟨"WaterWorks$Guard", "takenBack", "(LWaterWorks$Call;)V"⟩) (owner := "WaterWorks$Guard") (y := mX13_takenBack) (k := 18) (i := i) (as := [.inr x]) (n := 1) (Nat.succ_ne_zero _) hlink q1021 q1022 q89 q1023 q974 (Or.inl ⟨_, _, _, q973, q1035⟩) zmh_X4_takenBack rfl (Nat.le_of_ble_eq_true rfl) hst hd h2
  · exact a_cu (x := ⟨"WaterWorks$Guard", "takenBack", "(LWaterWorks$Call;)V"⟩) (owner := "WaterWorks$Guard") (y := mX4_takenBack) (k := 19) (i := i) (as := [.inr x]) (n := 1) (Nat.succ_ne_zero _) hlink q1034 q973 q80 q1035 q974 (Or.inl ⟨_, _, _, q973, q1035⟩) zmh_X4_takenBack rfl (Nat.le_of_ble_eq_true rfl) hst hd h2
def vt_due (k : Nat) : zMt := match k with
  | 10 => mX4_due
  | 11 => mX4_due
  | 12 => mX4_due
  | 13 => mX8_due
  | 14 => mX9_due
  | 15 => mX10_due
  | 16 => mX4_due
  | 17 => mX4_due
  | 18 => mX4_due
  | 19 => mX4_due
  | _ => mX4_due
theorem b_d_due {d : Nat} {mt : zMt} {pc : Nat} {lv : List (Nat × AV)} {st : List AV} {M : Mem} {Q : Option AV → Mem → Prop} {e x : Nat × Nat} {index : Nat} (hk : gk e.1) (hlink : Cond.methodLink mt.1.cls index ⟨"WaterWorks$Guard", "due", "(LWaterWorks$Call;)V"⟩ ∈ lw_all) (hst : st.length ≤ 8) (hd : decode mt.2.1 pc = .ok (.invokevirtual index, 3))
    (h : cq d (vt_due e.1) [.inr e, .inr x] M (fun r M' => wq (d + 1) mt (pc + 3) lv (r.toList ++ st) M' Q)) : wq (d + 1) mt pc lv (.inr x :: .inr e :: st) M Q := by
  obtain ⟨k, i⟩ := e
  intro M0 A
  have h2 := (h M0 A).mono (Q' := fun r M' => wp (d + 1) mt (pc + 3) lv (r.toList ++ st) M' (QQ Q)) (fun r M' ⟨_, A', hw⟩ => hw M' A')
  clear h
  dsimp only at hk h2
  rcases gkc hk with e | e | e | e | e | e | e | e | e | e <;> subst e
  · exact a_cu (x := ⟨"WaterWorks$Guard", "due", "(LWaterWorks$Call;)V"⟩) (owner := "WaterWorks$Guard") (y := mX4_due) (k := 10) (i := i) (as := [.inr x]) (n := 1) (Nat.succ_ne_zero _) hlink q1212 q1198 q80 q1224 q1199 (Or.inl ⟨_, _, _, q1198, q1224⟩) zmh_X4_due rfl (Nat.le_of_ble_eq_true rfl) hst hd h2
  · exact a_cu (x := ⟨"WaterWorks$Guard", "due", "(LWaterWorks$Call;)V"⟩) (owner := "WaterWorks$Guard") (y := mX4_due) (k := 11) (i := i) (as := [.inr x]) (n := 1) (Nat.succ_ne_zero _) hlink q1200 q1198 q80 q1224 q1199 (Or.inl ⟨_, _, _, q1198, q1224⟩) zmh_X4_due rfl (Nat.le_of_ble_eq_true rfl) hst hd h2
  · exact a_cu (x := ⟨"WaterWorks$Guard", "due", "(LWaterWorks$Call;)V"⟩) (owner := "WaterWorks$Guard") (y := mX4_due) (k := 12) (i := i) (as := [.inr x]) (n := 1) (Nat.succ_ne_zero _) hlink q1217 q1198 q80 q1224 q1199 (Or.inl ⟨_, _, _, q1198, q1224⟩) zmh_X4_due rfl (Nat.le_of_ble_eq_true rfl) hst hd h2
  · exact a_cu (x := ⟨"WaterWorks$Guard", "due", "(LWaterWorks$Call;)V"⟩) (owner := "WaterWorks$Guard") (y := mX8_due) (k := 13) (i := i) (as := [.inr x]) (n := 1) (Nat.succ_ne_zero _) hlink q1201 q1202 q84 q1203 q1199 (Or.inl ⟨_, _, _, q1198, q1224⟩) zmh_X4_due rfl (Nat.le_of_ble_eq_true rfl) hst hd h2
  · exact a_cu (x := ⟨"WaterWorks$Guard", "due", "(LWaterWorks$Call;)V"⟩) (owner := "WaterWorks$Guard") (y := mX9_due) (k := 14) (i := i) (as := [.inr x]) (n := 1) (Nat.succ_ne_zero _) hlink q1219 q1220 q85 q1221 q1199 (Or.inl ⟨_, _, _, q1198, q1224⟩) zmh_X4_due rfl (Nat.le_of_ble_eq_true rfl) hst hd h2
  · exact a_cu (x := ⟨"WaterWorks$Guard", "due", "(LWaterWorks$Call;)V"⟩) (owner := "WaterWorks$Guard") (y := mX10_due) (k := 15) (i := i) (as := [.inr x]) (n := 1) (Nat.succ_ne_zero _) hlink q1213 q1214 q86 q1215 q1199 (Or.inl ⟨_, _, _, q1198, q1224⟩) zmh_X4_due rfl (Nat.le_of_ble_eq_true rfl) hst hd h2
  · exact a_cu (x := ⟨"WaterWorks$Guard", "due", "(LWaterWorks$Call;)V"⟩) (owner := "WaterWorks$Guard") (y := mX4_due) (k := 16) (i := i) (as := [.inr x]) (n := 1) (Nat.succ_ne_zero _) hlink q1211 q1198 q80 q1224 q1199 (Or.inl ⟨_, _, _, q1198, q1224⟩) zmh_X4_due rfl (Nat.le_of_ble_eq_true rfl) hst hd h2
  · exact a_cu (x := ⟨"WaterWorks$Guard", "due", "(LWaterWorks$Call;)V"⟩) (owner := "WaterWorks$Guard") (y := mX4_due) (k := 17) (i := i) (as := [.inr x]) (n := 1) (Nat.succ_ne_zero _) hlink q1218 q1198 q80 q1224 q1199 (Or.inl ⟨_, _, _, q1198, q1224⟩) zmh_X4_due rfl (Nat.le_of_ble_eq_true rfl) hst hd h2
  · exact a_cu (x := ⟨"WaterWorks$Guard", "due", "(LWaterWorks$Call;)V"⟩) (owner := "WaterWorks$Guard") (y := mX4_due) (k := 18) (i := i) (as := [.inr x]) (n := 1) (Nat.succ_ne_zero _) hlink q1216 q1198 q80 q1224 q1199 (Or.inl ⟨_, _, _, q1198, q1224⟩) zmh_X4_due rfl (Nat.le_of_ble_eq_true rfl) hst hd h2
  · exact a_cu (x := ⟨"WaterWorks$Guard", "due", "(LWaterWorks$Call;)V"⟩) (owner := "WaterWorks$Guard") (y := mX4_due) (k := 19) (i := i) (as := [.inr x]) (n := 1) (Nat.succ_ne_zero _) hlink q1223 q1198 q80 q1224 q1199 (Or.inl ⟨_, _, _, q1198, q1224⟩) zmh_X4_due rfl (Nat.le_of_ble_eq_true rfl) hst hd h2
def vt_newSecond (k : Nat) : zMt := match k with
  | 10 => mX4_newSecond
  | 11 => mX4_newSecond
  | 12 => mX7_newSecond
  | 13 => mX4_newSecond
  | 14 => mX4_newSecond
  | 15 => mX4_newSecond
  | 16 => mX4_newSecond
  | 17 => mX4_newSecond
  | 18 => mX4_newSecond
  | 19 => mX4_newSecond
  | _ => mX4_newSecond
theorem b_d_newSecond {d : Nat} {mt : zMt} {pc : Nat} {lv : List (Nat × AV)} {st : List AV} {M : Mem} {Q : Option AV → Mem → Prop} {e  : Nat × Nat} {index : Nat} (hk : gk e.1) (hlink : Cond.methodLink mt.1.cls index ⟨"WaterWorks$Guard", "newSecond", "()V"⟩ ∈ lw_all) (hst : st.length ≤ 8) (hd : decode mt.2.1 pc = .ok (.invokevirtual index, 3))
    (h : cq d (vt_newSecond e.1) [.inr e] M (fun r M' => wq (d + 1) mt (pc + 3) lv (r.toList ++ st) M' Q)) : wq (d + 1) mt pc lv (.inr e :: st) M Q := by
  obtain ⟨k, i⟩ := e
  intro M0 A
  have h2 := (h M0 A).mono (Q' := fun r M' => wp (d + 1) mt (pc + 3) lv (r.toList ++ st) M' (QQ Q)) (fun r M' ⟨_, A', hw⟩ => hw M' A')
  clear h
  dsimp only at hk h2
  rcases gkc hk with e | e | e | e | e | e | e | e | e | e <;> subst e
  · exact a_cu (x := ⟨"WaterWorks$Guard", "newSecond", "()V"⟩) (owner := "WaterWorks$Guard") (y := mX4_newSecond) (k := 10) (i := i) (as := []) (n := 0) (Nat.succ_ne_zero _) hlink q1139 q1134 q80 q1149 q1135 (Or.inl ⟨_, _, _, q1134, q1149⟩) zmh_X4_newSecond rfl (Nat.le_of_ble_eq_true rfl) hst hd h2
  · exact a_cu (x := ⟨"WaterWorks$Guard", "newSecond", "()V"⟩) (owner := "WaterWorks$Guard") (y := mX4_newSecond) (k := 11) (i := i) (as := []) (n := 0) (Nat.succ_ne_zero _) hlink q1136 q1134 q80 q1149 q1135 (Or.inl ⟨_, _, _, q1134, q1149⟩) zmh_X4_newSecond rfl (Nat.le_of_ble_eq_true rfl) hst hd h2
  · exact a_cu (x := ⟨"WaterWorks$Guard", "newSecond", "()V"⟩) (owner := "WaterWorks$Guard") (y := mX7_newSecond) (k := 12) (i := i) (as := []) (n := 0) (Nat.succ_ne_zero _) hlink q1142 q1143 q83 q1144 q1135 (Or.inl ⟨_, _, _, q1134, q1149⟩) zmh_X4_newSecond rfl (Nat.le_of_ble_eq_true rfl) hst hd h2
  · exact a_cu (x := ⟨"WaterWorks$Guard", "newSecond", "()V"⟩) (owner := "WaterWorks$Guard") (y := mX4_newSecond) (k := 13) (i := i) (as := []) (n := 0) (Nat.succ_ne_zero _) hlink q1137 q1134 q80 q1149 q1135 (Or.inl ⟨_, _, _, q1134, q1149⟩) zmh_X4_newSecond rfl (Nat.le_of_ble_eq_true rfl) hst hd h2
  · exact a_cu (x := ⟨"WaterWorks$Guard", "newSecond", "()V"⟩) (owner := "WaterWorks$Guard") (y := mX4_newSecond) (k := 14) (i := i) (as := []) (n := 0) (Nat.succ_ne_zero _) hlink q1147 q1134 q80 q1149 q1135 (Or.inl ⟨_, _, _, q1134, q1149⟩) zmh_X4_newSecond rfl (Nat.le_of_ble_eq_true rfl) hst hd h2
  · exact a_cu (x := ⟨"WaterWorks$Guard", "newSecond", "()V"⟩) (owner := "WaterWorks$Guard") (y := mX4_newSecond) (k := 15) (i := i) (as := []) (n := 0) (Nat.succ_ne_zero _) hlink q1140 q1134 q80 q1149 q1135 (Or.inl ⟨_, _, _, q1134, q1149⟩) zmh_X4_newSecond rfl (Nat.le_of_ble_eq_true rfl) hst hd h2
  · exact a_cu (x := ⟨"WaterWorks$Guard", "newSecond", "()V"⟩) (owner := "WaterWorks$Guard") (y := mX4_newSecond) (k := 16) (i := i) (as := []) (n := 0) (Nat.succ_ne_zero _) hlink q1138 q1134 q80 q1149 q1135 (Or.inl ⟨_, _, _, q1134, q1149⟩) zmh_X4_newSecond rfl (Nat.le_of_ble_eq_true rfl) hst hd h2
  · exact a_cu (x := ⟨"WaterWorks$Guard", "newSecond", "()V"⟩) (owner := "WaterWorks$Guard") (y := mX4_newSecond) (k := 17) (i := i) (as := []) (n := 0) (Nat.succ_ne_zero _) hlink q1146 q1134 q80 q1149 q1135 (Or.inl ⟨_, _, _, q1134, q1149⟩) zmh_X4_newSecond rfl (Nat.le_of_ble_eq_true rfl) hst hd h2
  · exact a_cu (x := ⟨"WaterWorks$Guard", "newSecond", "()V"⟩) (owner := "WaterWorks$Guard") (y := mX4_newSecond) (k := 18) (i := i) (as := []) (n := 0) (Nat.succ_ne_zero _) hlink q1141 q1134 q80 q1149 q1135 (Or.inl ⟨_, _, _, q1134, q1149⟩) zmh_X4_newSecond rfl (Nat.le_of_ble_eq_true rfl) hst hd h2
  · exact a_cu (x := ⟨"WaterWorks$Guard", "newSecond", "()V"⟩) (owner := "WaterWorks$Guard") (y := mX4_newSecond) (k := 19) (i := i) (as := []) (n := 0) (Nat.succ_ne_zero _) hlink q1148 q1134 q80 q1149 q1135 (Or.inl ⟨_, _, _, q1134, q1149⟩) zmh_X4_newSecond rfl (Nat.le_of_ble_eq_true rfl) hst hd h2
def vt_is (k : Nat) : zMt := match k with
  | 25 => mX21_is
  | 26 => mX22_is
  | 27 => mX23_is
  | 28 => mX24_is
  | _ => mX21_is
theorem zmh_alarm_is : zmh ⟨"WaterWorks$Alarm", "is", "()Z"⟩ 0 := ⟨⟨by decide +kernel, by decide +kernel⟩, by decide +kernel⟩
theorem b_d_is {d : Nat} {mt : zMt} {pc : Nat} {lv : List (Nat × AV)} {st : List AV} {M : Mem} {Q : Option AV → Mem → Prop} {e  : Nat × Nat} {index : Nat} (hk : ak e.1) (hlink : Cond.methodLink mt.1.cls index ⟨"WaterWorks$Alarm", "is", "()Z"⟩ ∈ lw_all) (hst : st.length ≤ 8) (hd : decode mt.2.1 pc = .ok (.invokevirtual index, 3))
    (h : cq d (vt_is e.1) [.inr e] M (fun r M' => wq (d + 1) mt (pc + 3) lv (r.toList ++ st) M' Q)) : wq (d + 1) mt pc lv (.inr e :: st) M Q := by
  obtain ⟨k, i⟩ := e
  intro M0 A
  have h2 := (h M0 A).mono (Q' := fun r M' => wp (d + 1) mt (pc + 3) lv (r.toList ++ st) M' (QQ Q)) (fun r M' ⟨_, A', hw⟩ => hw M' A')
  clear h
  dsimp only at hk h2
  rcases akc hk with e | e | e | e <;> subst e
  · exact a_cu (x := ⟨"WaterWorks$Alarm", "is", "()Z"⟩) (owner := "WaterWorks$Alarm") (y := mX21_is) (k := 25) (i := i) (as := []) (n := 0) (Nat.succ_ne_zero _) hlink q1263 q1264 q99 q1265 q1255 (Or.inr q1254) zmh_alarm_is rfl (Nat.le_of_ble_eq_true rfl) hst hd h2
  · exact a_cu (x := ⟨"WaterWorks$Alarm", "is", "()Z"⟩) (owner := "WaterWorks$Alarm") (y := mX22_is) (k := 26) (i := i) (as := []) (n := 0) (Nat.succ_ne_zero _) hlink q1266 q1267 q100 q1268 q1255 (Or.inr q1254) zmh_alarm_is rfl (Nat.le_of_ble_eq_true rfl) hst hd h2
  · exact a_cu (x := ⟨"WaterWorks$Alarm", "is", "()Z"⟩) (owner := "WaterWorks$Alarm") (y := mX23_is) (k := 27) (i := i) (as := []) (n := 0) (Nat.succ_ne_zero _) hlink q1269 q1270 q101 q1271 q1255 (Or.inr q1254) zmh_alarm_is rfl (Nat.le_of_ble_eq_true rfl) hst hd h2
  · exact a_cu (x := ⟨"WaterWorks$Alarm", "is", "()Z"⟩) (owner := "WaterWorks$Alarm") (y := mX24_is) (k := 28) (i := i) (as := []) (n := 0) (Nat.succ_ne_zero _) hlink q1256 q1257 q102 q1258 q1255 (Or.inr q1254) zmh_alarm_is rfl (Nat.le_of_ble_eq_true rfl) hst hd h2
theorem b_i_names_Fuse {d : Nat} {mt : zMt} {pc : Nat} {lv : List (Nat × AV)} {st : List AV} {M : Mem} {Q : Option AV → Mem → Prop} {e : Nat × Nat} {as : List AV} {index : Nat} (hk : kt e.1 = 5) (hlink : Cond.methodLink mt.1.cls index ⟨"WaterWorks$Fuse", "names", "(LWaterWorks$Call;)Z"⟩ ∈ lw_all) (hn : as.length = 1) (hst : st.length ≤ 8) (hd : decode mt.2.1 pc = .ok (.invokevirtual index, 3))
    (h : cq d mX4_names (.inr e :: as) M (fun r M' => wq (d + 1) mt (pc + 3) lv (r.toList ++ st) M' Q)) : wq (d + 1) mt pc lv (as.reverse ++ .inr e :: st) M Q :=
  fun M0 A => a_cu (x := ⟨"WaterWorks$Fuse", "names", "(LWaterWorks$Call;)Z"⟩) (owner := "WaterWorks$Guard") (y := mX4_names) (k := e.1) (i := e.2) (n := 1) (kt_nz (r := (RX5, TX5, 12)) rfl hk) hlink (by rw [zname_of (r := (RX5, TX5, 12)) rfl hk]; exact q939) q926 q80 q927 q938 (Or.inl ⟨_, _, _, q926, q927⟩) zmh_X4_names hn (Nat.le_of_ble_eq_true rfl) hst hd ((h M0 A).mono fun r M' ⟨_, A', hw⟩ => hw M' A')
theorem b_i_names_Retry {d : Nat} {mt : zMt} {pc : Nat} {lv : List (Nat × AV)} {st : List AV} {M : Mem} {Q : Option AV → Mem → Prop} {e : Nat × Nat} {as : List AV} {index : Nat} (hk : kt e.1 = 9) (hlink : Cond.methodLink mt.1.cls index ⟨"WaterWorks$Retry", "names", "(LWaterWorks$Call;)Z"⟩ ∈ lw_all) (hn : as.length = 1) (hst : st.length ≤ 8) (hd : decode mt.2.1 pc = .ok (.invokevirtual index, 3))
    (h : cq d mX4_names (.inr e :: as) M (fun r M' => wq (d + 1) mt (pc + 3) lv (r.toList ++ st) M' Q)) : wq (d + 1) mt pc lv (as.reverse ++ .inr e :: st) M Q :=
  fun M0 A => a_cu (x := ⟨"WaterWorks$Retry", "names", "(LWaterWorks$Call;)Z"⟩) (owner := "WaterWorks$Guard") (y := mX4_names) (k := e.1) (i := e.2) (n := 1) (kt_nz (r := (RX9, TX9, 8)) rfl hk) hlink (by rw [zname_of (r := (RX9, TX9, 8)) rfl hk]; exact q1056) q926 q80 q927 q1055 (Or.inl ⟨_, _, _, q926, q927⟩) zmh_X4_names hn (Nat.le_of_ble_eq_true rfl) hst hd ((h M0 A).mono fun r M' ⟨_, A', hw⟩ => hw M' A')
theorem b_i_names_Fallback {d : Nat} {mt : zMt} {pc : Nat} {lv : List (Nat × AV)} {st : List AV} {M : Mem} {Q : Option AV → Mem → Prop} {e : Nat × Nat} {as : List AV} {index : Nat} (hk : kt e.1 = 11) (hlink : Cond.methodLink mt.1.cls index ⟨"WaterWorks$Fallback", "names", "(LWaterWorks$Call;)Z"⟩ ∈ lw_all) (hn : as.length = 1) (hst : st.length ≤ 8) (hd : decode mt.2.1 pc = .ok (.invokevirtual index, 3))
    (h : cq d mX4_names (.inr e :: as) M (fun r M' => wq (d + 1) mt (pc + 3) lv (r.toList ++ st) M' Q)) : wq (d + 1) mt pc lv (as.reverse ++ .inr e :: st) M Q :=
  fun M0 A => a_cu (x := ⟨"WaterWorks$Fallback", "names", "(LWaterWorks$Call;)Z"⟩) (owner := "WaterWorks$Guard") (y := mX4_names) (k := e.1) (i := e.2) (n := 1) (kt_nz (r := (RX11, TX11, 8)) rfl hk) hlink (by rw [zname_of (r := (RX11, TX11, 8)) rfl hk]; exact q925) q926 q80 q927 q923 (Or.inl ⟨_, _, _, q926, q927⟩) zmh_X4_names hn (Nat.le_of_ble_eq_true rfl) hst hd ((h M0 A).mono fun r M' ⟨_, A', hw⟩ => hw M' A')
theorem b_i_names_Translator {d : Nat} {mt : zMt} {pc : Nat} {lv : List (Nat × AV)} {st : List AV} {M : Mem} {Q : Option AV → Mem → Prop} {e : Nat × Nat} {as : List AV} {index : Nat} (hk : kt e.1 = 14) (hlink : Cond.methodLink mt.1.cls index ⟨"WaterWorks$Translator", "names", "(LWaterWorks$Call;)Z"⟩ ∈ lw_all) (hn : as.length = 1) (hst : st.length ≤ 8) (hd : decode mt.2.1 pc = .ok (.invokevirtual index, 3))
    (h : cq d mX4_names (.inr e :: as) M (fun r M' => wq (d + 1) mt (pc + 3) lv (r.toList ++ st) M' Q)) : wq (d + 1) mt pc lv (as.reverse ++ .inr e :: st) M Q :=
  fun M0 A => a_cu (x := ⟨"WaterWorks$Translator", "names", "(LWaterWorks$Call;)Z"⟩) (owner := "WaterWorks$Guard") (y := mX4_names) (k := e.1) (i := e.2) (n := 1) (kt_nz (r := (RX14, TX14, 8)) rfl hk) hlink (by rw [zname_of (r := (RX14, TX14, 8)) rfl hk]; exact q1066) q926 q80 q927 q1065 (Or.inl ⟨_, _, _, q926, q927⟩) zmh_X4_names hn (Nat.le_of_ble_eq_true rfl) hst hd ((h M0 A).mono fun r M' ⟨_, A', hw⟩ => hw M' A')
theorem b_i_refuses_Fuse {d : Nat} {mt : zMt} {pc : Nat} {lv : List (Nat × AV)} {st : List AV} {M : Mem} {Q : Option AV → Mem → Prop} {e : Nat × Nat} {as : List AV} {index : Nat} (hk : kt e.1 = 5) (hlink : Cond.methodLink mt.1.cls index ⟨"WaterWorks$Fuse", "refuses", "(LWaterWorks$Call;I)V"⟩ ∈ lw_all) (hn : as.length = 2) (hst : st.length ≤ 8) (hd : decode mt.2.1 pc = .ok (.invokevirtual index, 3))
    (h : cq d mX4_refuses (.inr e :: as) M (fun r M' => wq (d + 1) mt (pc + 3) lv (r.toList ++ st) M' Q)) : wq (d + 1) mt pc lv (as.reverse ++ .inr e :: st) M Q :=
  fun M0 A => a_cu (x := ⟨"WaterWorks$Fuse", "refuses", "(LWaterWorks$Call;I)V"⟩) (owner := "WaterWorks$Guard") (y := mX4_refuses) (k := e.1) (i := e.2) (n := 2) (kt_nz (r := (RX5, TX5, 12)) rfl hk) hlink (by rw [zname_of (r := (RX5, TX5, 12)) rfl hk]; exact q1083) q849 q80 q850 q1082 (Or.inl ⟨_, _, _, q849, q850⟩) zmh_X4_refuses hn (Nat.le_of_ble_eq_true rfl) hst hd ((h M0 A).mono fun r M' ⟨_, A', hw⟩ => hw M' A')
theorem b_i_refuses_Bulkhead {d : Nat} {mt : zMt} {pc : Nat} {lv : List (Nat × AV)} {st : List AV} {M : Mem} {Q : Option AV → Mem → Prop} {e : Nat × Nat} {as : List AV} {index : Nat} (hk : kt e.1 = 6) (hlink : Cond.methodLink mt.1.cls index ⟨"WaterWorks$Bulkhead", "refuses", "(LWaterWorks$Call;I)V"⟩ ∈ lw_all) (hn : as.length = 2) (hst : st.length ≤ 8) (hd : decode mt.2.1 pc = .ok (.invokevirtual index, 3))
    (h : cq d mX4_refuses (.inr e :: as) M (fun r M' => wq (d + 1) mt (pc + 3) lv (r.toList ++ st) M' Q)) : wq (d + 1) mt pc lv (as.reverse ++ .inr e :: st) M Q :=
  fun M0 A => a_cu (x := ⟨"WaterWorks$Bulkhead", "refuses", "(LWaterWorks$Call;I)V"⟩) (owner := "WaterWorks$Guard") (y := mX4_refuses) (k := e.1) (i := e.2) (n := 2) (kt_nz (r := (RX6, TX6, 11)) rfl hk) hlink (by rw [zname_of (r := (RX6, TX6, 11)) rfl hk]; exact q848) q849 q80 q850 q846 (Or.inl ⟨_, _, _, q849, q850⟩) zmh_X4_refuses hn (Nat.le_of_ble_eq_true rfl) hst hd ((h M0 A).mono fun r M' ⟨_, A', hw⟩ => hw M' A')
theorem b_i_refuses_Limit {d : Nat} {mt : zMt} {pc : Nat} {lv : List (Nat × AV)} {st : List AV} {M : Mem} {Q : Option AV → Mem → Prop} {e : Nat × Nat} {as : List AV} {index : Nat} (hk : kt e.1 = 7) (hlink : Cond.methodLink mt.1.cls index ⟨"WaterWorks$Limit", "refuses", "(LWaterWorks$Call;I)V"⟩ ∈ lw_all) (hn : as.length = 2) (hst : st.length ≤ 8) (hd : decode mt.2.1 pc = .ok (.invokevirtual index, 3))
    (h : cq d mX4_refuses (.inr e :: as) M (fun r M' => wq (d + 1) mt (pc + 3) lv (r.toList ++ st) M' Q)) : wq (d + 1) mt pc lv (as.reverse ++ .inr e :: st) M Q :=
  fun M0 A => a_cu (x := ⟨"WaterWorks$Limit", "refuses", "(LWaterWorks$Call;I)V"⟩) (owner := "WaterWorks$Guard") (y := mX4_refuses) (k := e.1) (i := e.2) (n := 2) (kt_nz (r := (RX7, TX7, 9)) rfl hk) hlink (by rw [zname_of (r := (RX7, TX7, 9)) rfl hk]; exact q1105) q849 q80 q850 q1104 (Or.inl ⟨_, _, _, q849, q850⟩) zmh_X4_refuses hn (Nat.le_of_ble_eq_true rfl) hst hd ((h M0 A).mono fun r M' ⟨_, A', hw⟩ => hw M' A')
theorem b_i_refuses_Deadline {d : Nat} {mt : zMt} {pc : Nat} {lv : List (Nat × AV)} {st : List AV} {M : Mem} {Q : Option AV → Mem → Prop} {e : Nat × Nat} {as : List AV} {index : Nat} (hk : kt e.1 = 8) (hlink : Cond.methodLink mt.1.cls index ⟨"WaterWorks$Deadline", "refuses", "(LWaterWorks$Call;I)V"⟩ ∈ lw_all) (hn : as.length = 2) (hst : st.length ≤ 8) (hd : decode mt.2.1 pc = .ok (.invokevirtual index, 3))
    (h : cq d mX4_refuses (.inr e :: as) M (fun r M' => wq (d + 1) mt (pc + 3) lv (r.toList ++ st) M' Q)) : wq (d + 1) mt pc lv (as.reverse ++ .inr e :: st) M Q :=
  fun M0 A => a_cu (x := ⟨"WaterWorks$Deadline", "refuses", "(LWaterWorks$Call;I)V"⟩) (owner := "WaterWorks$Guard") (y := mX4_refuses) (k := e.1) (i := e.2) (n := 2) (kt_nz (r := (RX8, TX8, 8)) rfl hk) hlink (by rw [zname_of (r := (RX8, TX8, 8)) rfl hk]; exact q1210) q849 q80 q850 q1209 (Or.inl ⟨_, _, _, q849, q850⟩) zmh_X4_refuses hn (Nat.le_of_ble_eq_true rfl) hst hd ((h M0 A).mono fun r M' ⟨_, A', hw⟩ => hw M' A')
theorem b_i_refuses_Join {d : Nat} {mt : zMt} {pc : Nat} {lv : List (Nat × AV)} {st : List AV} {M : Mem} {Q : Option AV → Mem → Prop} {e : Nat × Nat} {as : List AV} {index : Nat} (hk : kt e.1 = 13) (hlink : Cond.methodLink mt.1.cls index ⟨"WaterWorks$Join", "refuses", "(LWaterWorks$Call;I)V"⟩ ∈ lw_all) (hn : as.length = 2) (hst : st.length ≤ 8) (hd : decode mt.2.1 pc = .ok (.invokevirtual index, 3))
    (h : cq d mX4_refuses (.inr e :: as) M (fun r M' => wq (d + 1) mt (pc + 3) lv (r.toList ++ st) M' Q)) : wq (d + 1) mt pc lv (as.reverse ++ .inr e :: st) M Q :=
  fun M0 A => a_cu (x := ⟨"WaterWorks$Join", "refuses", "(LWaterWorks$Call;I)V"⟩) (owner := "WaterWorks$Guard") (y := mX4_refuses) (k := e.1) (i := e.2) (n := 2) (kt_nz (r := (RX13, TX13, 8)) rfl hk) hlink (by rw [zname_of (r := (RX13, TX13, 8)) rfl hk]; exact q1030) q849 q80 q850 q1029 (Or.inl ⟨_, _, _, q849, q850⟩) zmh_X4_refuses hn (Nat.le_of_ble_eq_true rfl) hst hd ((h M0 A).mono fun r M' ⟨_, A', hw⟩ => hw M' A')
theorem b_i_look_Alarm {d : Nat} {mt : zMt} {pc : Nat} {lv : List (Nat × AV)} {st : List AV} {M : Mem} {Q : Option AV → Mem → Prop} {e : Nat × Nat} {as : List AV} {index : Nat} (hk : ak e.1) (hlink : Cond.methodLink mt.1.cls index ⟨"WaterWorks$Alarm", "look", "()V"⟩ ∈ lw_all) (hn : as.length = 0) (hst : st.length ≤ 8) (hd : decode mt.2.1 pc = .ok (.invokevirtual index, 3))
    (h : cq d mX20_look (.inr e :: as) M (fun r M' => wq (d + 1) mt (pc + 3) lv (r.toList ++ st) M' Q)) : wq (d + 1) mt pc lv (as.reverse ++ .inr e :: st) M Q := by
  obtain ⟨k, i⟩ := e
  intro M0 A
  have h2 := (h M0 A).mono (Q' := fun r M' => wp (d + 1) mt (pc + 3) lv (r.toList ++ st) M' (QQ Q)) (fun r M' ⟨_, A', hw⟩ => hw M' A')
  clear h
  dsimp only at hk h2
  rcases akc hk with e | e | e | e <;> subst e
  · exact a_cu (x := ⟨"WaterWorks$Alarm", "look", "()V"⟩) (owner := "WaterWorks$Alarm") (y := mX20_look) (k := 25) (i := i) (n := 0) (Nat.succ_ne_zero _) hlink q1249 q1246 q98 q1252 q1247 (Or.inl ⟨_, _, _, q1246, q1252⟩) zmh_X20_look hn (Nat.le_of_ble_eq_true rfl) hst hd h2
  · exact a_cu (x := ⟨"WaterWorks$Alarm", "look", "()V"⟩) (owner := "WaterWorks$Alarm") (y := mX20_look) (k := 26) (i := i) (n := 0) (Nat.succ_ne_zero _) hlink q1250 q1246 q98 q1252 q1247 (Or.inl ⟨_, _, _, q1246, q1252⟩) zmh_X20_look hn (Nat.le_of_ble_eq_true rfl) hst hd h2
  · exact a_cu (x := ⟨"WaterWorks$Alarm", "look", "()V"⟩) (owner := "WaterWorks$Alarm") (y := mX20_look) (k := 27) (i := i) (n := 0) (Nat.succ_ne_zero _) hlink q1251 q1246 q98 q1252 q1247 (Or.inl ⟨_, _, _, q1246, q1252⟩) zmh_X20_look hn (Nat.le_of_ble_eq_true rfl) hst hd h2
  · exact a_cu (x := ⟨"WaterWorks$Alarm", "look", "()V"⟩) (owner := "WaterWorks$Alarm") (y := mX20_look) (k := 28) (i := i) (n := 0) (Nat.succ_ne_zero _) hlink q1248 q1246 q98 q1252 q1247 (Or.inl ⟨_, _, _, q1246, q1252⟩) zmh_X20_look hn (Nat.le_of_ble_eq_true rfl) hst hd h2
