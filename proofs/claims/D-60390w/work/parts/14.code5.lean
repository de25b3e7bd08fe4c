/-- TowerComputerModel.declares(II)V -/
def m_17_32 : List am_B := [
  (false, [(.aload_n 0, []), (.invokevirtual 432, [1, 17, 21, 1, 0, 0, 1]), (.aload_n 0, []), (.invokevirtual 462, [1, 17, 31, 1, 1, 0, 1]), (.istore_n 3, []), (.iconst 1, []), (.istore 4, []), (.nop, [1])]),
  (true, [(.iload 4, []), (.ifCond .eq 197, [13]), (.aload_n 0, []), (.getfield 419, [17, 11, 0]), (.ifCond .ne 190, [13]), (.aload_n 0, []), (.getfield 381, [17, 10, 0]), (.istore 5, []), (.aload_n 0, []), (.getfield 20, [17, 5, 1]), (.aload_n 0, []), (.getfield 381, [17, 10, 0]), (.iaload, []), (.iconst 1, []), (.if_icmp .eq 8, [2]), (.aload_n 0, []), (.invokevirtual 435, [1, 17, 18, 1, 0, 0, 1]), (.return_, [])]),
  (false, [(.iload_n 2, []), (.ifCond .ne 10, [3]), (.aload_n 0, []), (.getfield 466, [17, 16, 0]), (.goto 28, [5])]),
  (false, [(.iload_n 2, []), (.iconst 1, []), (.if_icmp .ne 17, [4]), (.aload_n 0, []), (.getfield 35, [17, 15, 1]), (.aload_n 0, []), (.getfield 459, [17, 14, 0]), (.iconst 1, []), (.isub, []), (.iaload, []), (.goto 9, [5])]),
  (false, [(.aload_n 0, []), (.getfield 53, [17, 23, 1]), (.iload_n 1, []), (.iaload, []), (.nop, [5])]),
  (true, [(.istore 6, []), (.aload_n 0, []), (.iload 6, []), (.bipush 12, []), (.iload 5, []), (.invokevirtual 469, [1, 17, 29, 4, 0, 0, 1]), (.aload_n 0, []), (.getfield 419, [17, 11, 0]), (.ifCond .le 4, [6]), (.return_, [])]),
  (false, [(.aload_n 0, []), (.iload_n 1, []), (.iload_n 2, []), (.iload_n 3, []), (.iload 5, []), (.iload_n 2, []), (.ifCond .ne 10, [7]), (.aload_n 0, []), (.getfield 473, [17, 60, 0]), (.goto 5, [8])]),
  (false, [(.iload 6, []), (.nop, [8])]),
  (true, [(.iload 6, []), (.invokevirtual 476, [1, 17, 30, 7, 0, 0, 1]), (.iload_n 2, []), (.ifCond .ne 23, [9]), (.aload_n 0, []), (.aload_n 0, []), (.getfield 466, [17, 16, 0]), (.iconst 1, []), (.iadd, []), (.putfield 466, [17, 16, 0]), (.aload_n 0, []), (.aload_n 0, []), (.getfield 473, [17, 60, 0]), (.iconst 1, []), (.iadd, []), (.putfield 473, [17, 60, 0]), (.nop, [9])]),
  (true, [(.iload_n 2, []), (.iconst 1, []), (.if_icmp .ne 18, [10]), (.aload_n 0, []), (.getfield 35, [17, 15, 1]), (.aload_n 0, []), (.getfield 459, [17, 14, 0]), (.iconst 1, []), (.isub, []), (.iload 6, []), (.iconst 1, []), (.iadd, []), (.iastore, []), (.nop, [10])]),
  (false, [(.iload_n 2, []), (.iconst 3, []), (.if_icmp .ne 13, [11]), (.aload_n 0, []), (.getfield 53, [17, 23, 1]), (.iload_n 1, []), (.iload 6, []), (.iconst 1, []), (.iadd, []), (.iastore, []), (.nop, [11])]),
  (true, [(.aload_n 0, []), (.invokevirtual 432, [1, 17, 21, 1, 0, 0, 1]), (.aload_n 0, []), (.bipush 44, []), (.invokevirtual 429, [1, 17, 19, 2, 1, 0, 1]), (.istore 4, []), (.iload 4, []), (.ifCond .eq 7, [12]), (.aload_n 0, []), (.invokevirtual 432, [1, 17, 21, 1, 0, 0, 1]), (.nop, [12])]),
  (false, [(.goto (-196), [1])]),
  (false, [(.aload_n 0, []), (.bipush 59, []), (.invokevirtual 453, [1, 17, 22, 2, 0, 0, 1]), (.return_, [])])]
/-- TowerComputerModel.parameters(I)V -/
def m_17_33 : List am_B := [
  (false, [(.aload_n 0, []), (.bipush 40, []), (.invokevirtual 453, [1, 17, 22, 2, 0, 0, 1]), (.aload_n 0, []), (.bipush 41, []), (.invokevirtual 429, [1, 17, 19, 2, 1, 0, 1]), (.ifCond .ne 7, [1]), (.iconst 1, []), (.goto 4, [2])]),
  (false, [(.iconst 0, []), (.nop, [2])]),
  (false, [(.istore_n 2, []), (.nop, [3])]),
  (true, [(.iload_n 2, []), (.ifCond .eq 116, [7]), (.aload_n 0, []), (.getfield 419, [17, 11, 0]), (.ifCond .ne 109, [7]), (.aload_n 0, []), (.invokevirtual 462, [1, 17, 31, 1, 1, 0, 1]), (.istore_n 3, []), (.aload_n 0, []), (.getfield 419, [17, 11, 0]), (.ifCond .le 4, [4]), (.return_, [])]),
  (false, [(.aload_n 0, []), (.getfield 20, [17, 5, 1]), (.aload_n 0, []), (.getfield 381, [17, 10, 0]), (.iaload, []), (.iconst 1, []), (.if_icmp .eq 8, [5]), (.aload_n 0, []), (.invokevirtual 435, [1, 17, 18, 1, 0, 0, 1]), (.return_, [])]),
  (false, [(.aload_n 0, []), (.aload_n 0, []), (.getfield 50, [17, 22, 1]), (.iload_n 1, []), (.iaload, []), (.bipush 12, []), (.aload_n 0, []), (.getfield 381, [17, 10, 0]), (.invokevirtual 469, [1, 17, 29, 4, 0, 0, 1]), (.aload_n 0, []), (.iload_n 1, []), (.iconst 2, []), (.iload_n 3, []), (.aload_n 0, []), (.getfield 381, [17, 10, 0]), (.aload_n 0, []), (.getfield 50, [17, 22, 1]), (.iload_n 1, []), (.iaload, []), (.aload_n 0, []), (.getfield 50, [17, 22, 1]), (.iload_n 1, []), (.iaload, []), (.invokevirtual 476, [1, 17, 30, 7, 0, 0, 1]), (.aload_n 0, []), (.getfield 50, [17, 22, 1]), (.iload_n 1, []), (.aload_n 0, []), (.getfield 50, [17, 22, 1]), (.iload_n 1, []), (.iaload, []), (.iconst 1, []), (.iadd, []), (.iastore, []), (.aload_n 0, []), (.invokevirtual 432, [1, 17, 21, 1, 0, 0, 1]), (.aload_n 0, []), (.bipush 44, []), (.invokevirtual 429, [1, 17, 19, 2, 1, 0, 1]), (.istore_n 2, []), (.iload_n 2, []), (.ifCond .eq 7, [6]), (.aload_n 0, []), (.invokevirtual 432, [1, 17, 21, 1, 0, 0, 1]), (.nop, [6])]),
  (false, [(.goto (-114), [3])]),
  (false, [(.aload_n 0, []), (.bipush 41, []), (.invokevirtual 453, [1, 17, 22, 2, 0, 0, 1]), (.return_, [])])]
/-- TowerComputerModel.sub()V -/
def m_17_34 : List am_B := [
  (false, [(.aload_n 0, []), (.getfield 29, [17, 8, 1]), (.aload_n 0, []), (.getfield 381, [17, 10, 0]), (.iaload, []), (.istore_n 1, []), (.aload_n 0, []), (.invokevirtual 432, [1, 17, 21, 1, 0, 0, 1]), (.aload_n 0, []), (.bipush 10, []), (.invokevirtual 438, [1, 17, 20, 2, 1, 0, 1]), (.ifCond .eq 7, [1]), (.iconst (-1), []), (.goto 7, [2])]),
  (false, [(.aload_n 0, []), (.invokevirtual 462, [1, 17, 31, 1, 1, 0, 1]), (.nop, [2])]),
  (false, [(.istore_n 2, []), (.iload_n 2, []), (.iconst (-1), []), (.if_icmp .ne 7, [3]), (.aload_n 0, []), (.invokevirtual 432, [1, 17, 21, 1, 0, 0, 1]), (.nop, [3])]),
  (true, [(.aload_n 0, []), (.getfield 419, [17, 11, 0]), (.ifCond .le 4, [4]), (.return_, [])]),
  (false, [(.aload_n 0, []), (.getfield 20, [17, 5, 1]), (.aload_n 0, []), (.getfield 381, [17, 10, 0]), (.iaload, []), (.iconst 1, []), (.if_icmp .eq 8, [5]), (.aload_n 0, []), (.invokevirtual 435, [1, 17, 18, 1, 0, 0, 1]), (.return_, [])]),
  (false, [(.aload_n 0, []), (.aload_n 0, []), (.getfield 444, [17, 17, 0]), (.bipush 60, []), (.aload_n 0, []), (.getfield 381, [17, 10, 0]), (.invokevirtual 469, [1, 17, 29, 4, 0, 0, 1]), (.aload_n 0, []), (.getfield 419, [17, 11, 0]), (.ifCond .le 4, [6]), (.return_, [])]),
  (false, [(.aload_n 0, []), (.getfield 38, [17, 18, 1]), (.aload_n 0, []), (.getfield 444, [17, 17, 0]), (.aload_n 0, []), (.getfield 459, [17, 14, 0]), (.iconst 1, []), (.isub, []), (.iastore, []), (.aload_n 0, []), (.getfield 41, [17, 19, 1]), (.aload_n 0, []), (.getfield 444, [17, 17, 0]), (.iload_n 1, []), (.iastore, []), (.aload_n 0, []), (.getfield 44, [17, 20, 1]), (.aload_n 0, []), (.getfield 444, [17, 17, 0]), (.aload_n 0, []), (.getfield 381, [17, 10, 0]), (.iastore, []), (.aload_n 0, []), (.getfield 47, [17, 21, 1]), (.aload_n 0, []), (.getfield 444, [17, 17, 0]), (.iload_n 2, []), (.iastore, []), (.aload_n 0, []), (.getfield 50, [17, 22, 1]), (.aload_n 0, []), (.getfield 444, [17, 17, 0]), (.iconst 0, []), (.iastore, []), (.aload_n 0, []), (.getfield 53, [17, 23, 1]), (.aload_n 0, []), (.getfield 444, [17, 17, 0]), (.iconst 0, []), (.iastore, []), (.aload_n 0, []), (.getfield 56, [17, 24, 1]), (.aload_n 0, []), (.getfield 444, [17, 17, 0]), (.aload_n 0, []), (.getfield 441, [17, 33, 0]), (.iastore, []), (.aload_n 0, []), (.aload_n 0, []), (.getfield 444, [17, 17, 0]), (.iconst 1, []), (.iadd, []), (.putfield 444, [17, 17, 0]), (.aload_n 0, []), (.iconst 0, []), (.putfield 480, [17, 50, 0]), (.aload_n 0, []), (.invokevirtual 432, [1, 17, 21, 1, 0, 0, 1]), (.aload_n 0, []), (.aload_n 0, []), (.getfield 444, [17, 17, 0]), (.iconst 1, []), (.isub, []), (.invokevirtual 483, [1, 17, 33, 2, 0, 0, 1]), (.nop, [7])]),
  (true, [(.aload_n 0, []), (.bipush 123, []), (.invokevirtual 486, [1, 17, 27, 2, 0, 0, 1]), (.nop, [8])]),
  (true, [(.aload_n 0, []), (.getfield 419, [17, 11, 0]), (.ifCond .ne 26, [9]), (.aload_n 0, []), (.bipush 6, []), (.invokevirtual 438, [1, 17, 20, 2, 1, 0, 1]), (.ifCond .eq 17, [9]), (.aload_n 0, []), (.aload_n 0, []), (.getfield 444, [17, 17, 0]), (.iconst 1, []), (.isub, []), (.iconst 3, []), (.invokevirtual 489, [1, 17, 32, 3, 0, 0, 1]), (.goto (-27), [8])]),
  (true, [(.aload_n 0, []), (.getfield 56, [17, 24, 1]), (.aload_n 0, []), (.getfield 444, [17, 17, 0]), (.iconst 1, []), (.isub, []), (.aload_n 0, []), (.getfield 441, [17, 33, 0]), (.iastore, []), (.aload_n 0, []), (.invokevirtual 492, [1, 17, 36, 1, 0, 0, 1]), (.aload_n 0, []), (.getfield 419, [17, 11, 0]), (.ifCond .le 4, [10]), (.return_, [])]),
  (false, [(.aload_n 0, []), (.iconst 0, []), (.iconst 0, []), (.iconst 0, []), (.aload_n 0, []), (.getfield 381, [17, 10, 0]), (.invokevirtual 495, [1, 17, 25, 5, 1, 0, 1]), (.pop, []), (.aload_n 0, []), (.bipush 18, []), (.iconst 1, []), (.iconst 0, []), (.aload_n 0, []), (.getfield 381, [17, 10, 0]), (.invokevirtual 495, [1, 17, 25, 5, 1, 0, 1]), (.pop, []), (.return_, [])])]
/-- TowerComputerModel.begins(IIII)V -/
def m_17_35 : List am_B := [
  (false, [(.aload_n 0, []), (.bipush 123, []), (.invokevirtual 486, [1, 17, 27, 2, 0, 0, 1]), (.aload_n 0, []), (.getfield 419, [17, 11, 0]), (.ifCond .le 4, [1]), (.return_, [])]),
  (false, [(.aload_n 0, []), (.getfield 128, [17, 56, 1]), (.aload_n 0, []), (.getfield 499, [17, 55, 0]), (.iload_n 1, []), (.iastore, []), (.aload_n 0, []), (.getfield 131, [17, 57, 1]), (.aload_n 0, []), (.getfield 499, [17, 55, 0]), (.iload_n 2, []), (.iastore, []), (.aload_n 0, []), (.getfield 134, [17, 58, 1]), (.aload_n 0, []), (.getfield 499, [17, 55, 0]), (.iload_n 3, []), (.iastore, []), (.aload_n 0, []), (.getfield 137, [17, 59, 1]), (.aload_n 0, []), (.getfield 499, [17, 55, 0]), (.iload 4, []), (.iastore, []), (.aload_n 0, []), (.aload_n 0, []), (.getfield 499, [17, 55, 0]), (.iconst 1, []), (.iadd, []), (.putfield 499, [17, 55, 0]), (.return_, [])])]
/-- TowerComputerModel.statements()V -/
def m_17_36 : List am_B := [
  (false, [(.aload_n 0, []), (.iconst 0, []), (.putfield 499, [17, 55, 0]), (.iconst 1, []), (.istore_n 1, []), (.nop, [1])]),
  (true, [(.iload_n 1, []), (.ifCond .eq 51, [4]), (.aload_n 0, []), (.getfield 419, [17, 11, 0]), (.ifCond .ne 44, [4]), (.aload_n 0, []), (.bipush 125, []), (.invokevirtual 429, [1, 17, 19, 2, 1, 0, 1]), (.ifCond .ne 10, [2]), (.aload_n 0, []), (.invokevirtual 502, [1, 17, 38, 1, 0, 0, 1]), (.goto (-24), [1])]),
  (false, [(.aload_n 0, []), (.bipush 125, []), (.invokevirtual 505, [1, 17, 28, 2, 0, 0, 1]), (.aload_n 0, []), (.getfield 499, [17, 55, 0]), (.ifCond .ne 8, [3]), (.iconst 0, []), (.istore_n 1, []), (.goto (-42), [1])]),
  (false, [(.aload_n 0, []), (.invokevirtual 508, [1, 17, 37, 1, 0, 0, 1]), (.goto (-49), [1])]),
  (false, [(.return_, [])])]
/-- TowerComputerModel.ends()V -/
def m_17_37 : List am_B := [
  (false, [(.aload_n 0, []), (.aload_n 0, []), (.getfield 499, [17, 55, 0]), (.iconst 1, []), (.isub, []), (.putfield 499, [17, 55, 0]), (.aload_n 0, []), (.getfield 131, [17, 57, 1]), (.aload_n 0, []), (.getfield 499, [17, 55, 0]), (.iaload, []), (.istore_n 1, []), (.aload_n 0, []), (.getfield 134, [17, 58, 1]), (.aload_n 0, []), (.getfield 499, [17, 55, 0]), (.iaload, []), (.istore_n 2, []), (.aload_n 0, []), (.getfield 128, [17, 56, 1]), (.aload_n 0, []), (.getfield 499, [17, 55, 0]), (.iaload, []), (.iconst 1, []), (.if_icmp .ne 58, [1]), (.aload_n 0, []), (.bipush 18, []), (.invokevirtual 438, [1, 17, 20, 2, 1, 0, 1]), (.ifCond .eq 49, [1]), (.aload_n 0, []), (.invokevirtual 432, [1, 17, 21, 1, 0, 0, 1]), (.aload_n 0, []), (.bipush 16, []), (.iconst 0, []), (.iload_n 1, []), (.iconst 1, []), (.iadd, []), (.aload_n 0, []), (.getfield 381, [17, 10, 0]), (.invokevirtual 495, [1, 17, 25, 5, 1, 0, 1]), (.istore_n 3, []), (.aload_n 0, []), (.getfield 83, [17, 35, 1]), (.iload_n 2, []), (.aload_n 0, []), (.bipush 20, []), (.iload_n 1, []), (.iconst 0, []), (.aload_n 0, []), (.getfield 381, [17, 10, 0]), (.invokevirtual 495, [1, 17, 25, 5, 1, 0, 1]), (.iastore, []), (.aload_n 0, []), (.iconst 2, []), (.iload_n 1, []), (.iload_n 3, []), (.iconst 0, []), (.invokevirtual 511, [1, 17, 35, 5, 0, 0, 1]), (.return_, [])]),
  (true, [(.aload_n 0, []), (.getfield 128, [17, 56, 1]), (.aload_n 0, []), (.getfield 499, [17, 55, 0]), (.iaload, []), (.iconst 3, []), (.if_icmp .ne 47, [2]), (.aload_n 0, []), (.bipush 16, []), (.aload_n 0, []), (.getfield 137, [17, 59, 1]), (.aload_n 0, []), (.getfield 499, [17, 55, 0]), (.iaload, []), (.iload_n 1, []), (.aload_n 0, []), (.getfield 381, [17, 10, 0]), (.invokevirtual 495, [1, 17, 25, 5, 1, 0, 1]), (.pop, []), (.aload_n 0, []), (.getfield 83, [17, 35, 1]), (.iload_n 2, []), (.aload_n 0, []), (.bipush 20, []), (.iload_n 1, []), (.iconst 1, []), (.iadd, []), (.iconst 0, []), (.aload_n 0, []), (.getfield 381, [17, 10, 0]), (.invokevirtual 495, [1, 17, 25, 5, 1, 0, 1]), (.iastore, []), (.goto 40, [5])]),
  (false, [(.aload_n 0, []), (.getfield 83, [17, 35, 1]), (.iload_n 2, []), (.aload_n 0, []), (.bipush 20, []), (.aload_n 0, []), (.getfield 128, [17, 56, 1]), (.aload_n 0, []), (.getfield 499, [17, 55, 0]), (.iaload, []), (.iconst 2, []), (.if_icmp .ne 9, [3]), (.iload_n 1, []), (.iconst 1, []), (.iadd, []), (.goto 4, [4])]),
  (false, [(.iload_n 1, []), (.nop, [4])]),
  (true, [(.iconst 0, []), (.aload_n 0, []), (.getfield 381, [17, 10, 0]), (.invokevirtual 495, [1, 17, 25, 5, 1, 0, 1]), (.iastore, []), (.nop, [5])]),
  (false, [(.aload_n 0, []), (.bipush 12, []), (.iconst 0, []), (.iconst 0, []), (.aload_n 0, []), (.getfield 381, [17, 10, 0]), (.invokevirtual 495, [1, 17, 25, 5, 1, 0, 1]), (.pop, []), (.return_, [])])]
/-- TowerComputerModel.statement()V -/
def m_17_38 : List am_B := [
  (false, [(.aload_n 0, []), (.getfield 381, [17, 10, 0]), (.istore_n 1, []), (.aload_n 0, []), (.getfield 20, [17, 5, 1]), (.aload_n 0, []), (.getfield 381, [17, 10, 0]), (.iaload, []), (.iconst 5, []), (.if_icmp .ne 31, [1]), (.aload_n 0, []), (.getfield 29, [17, 8, 1]), (.aload_n 0, []), (.getfield 381, [17, 10, 0]), (.iaload, []), (.bipush 15, []), (.if_icmp .lt 17, [1]), (.aload_n 0, []), (.getfield 29, [17, 8, 1]), (.aload_n 0, []), (.getfield 381, [17, 10, 0]), (.iaload, []), (.bipush 18, []), (.if_icmp .ne 8, [2]), (.nop, [1])]),
  (false, [(.aload_n 0, []), (.invokevirtual 435, [1, 17, 18, 1, 0, 0, 1]), (.return_, [])]),
  (false, [(.aload_n 0, []), (.getfield 29, [17, 8, 1]), (.aload_n 0, []), (.getfield 381, [17, 10, 0]), (.iaload, []), (.istore_n 2, []), (.aload_n 0, []), (.bipush 11, []), (.iconst 0, []), (.iconst 0, []), (.iload_n 1, []), (.invokevirtual 495, [1, 17, 25, 5, 1, 0, 1]), (.pop, []), (.aload_n 0, []), (.invokevirtual 432, [1, 17, 21, 1, 0, 0, 1]), (.iload_n 2, []), (.lookupswitch 118 #[(15, 36), (16, 43), (20, 66)], [10, 3, 4, 5])]),
  (false, [(.aload_n 0, []), (.invokevirtual 514, [1, 17, 39, 1, 0, 0, 1]), (.goto 95, [13])]),
  (false, [(.aload_n 0, []), (.invokevirtual 517, [1, 17, 41, 1, 0, 0, 1]), (.aload_n 0, []), (.bipush 19, []), (.iconst 0, []), (.iconst 0, []), (.iload_n 1, []), (.invokevirtual 495, [1, 17, 25, 5, 1, 0, 1]), (.pop, []), (.aload_n 0, []), (.bipush 59, []), (.invokevirtual 453, [1, 17, 22, 2, 0, 0, 1]), (.goto 72, [13])]),
  (false, [(.aload_n 0, []), (.bipush 59, []), (.invokevirtual 429, [1, 17, 19, 2, 1, 0, 1]), (.ifCond .ne 7, [6]), (.iconst 1, []), (.goto 4, [7])]),
  (false, [(.iconst 0, []), (.nop, [7])]),
  (true, [(.istore_n 3, []), (.iload_n 3, []), (.ifCond .eq 10, [8]), (.aload_n 0, []), (.invokevirtual 520, [1, 17, 45, 1, 0, 0, 1]), (.goto 12, [9])]),
  (false, [(.aload_n 0, []), (.iconst 0, []), (.iconst 0, []), (.iconst 0, []), (.iload_n 1, []), (.invokevirtual 495, [1, 17, 25, 5, 1, 0, 1]), (.pop, []), (.nop, [9])]),
  (false, [(.aload_n 0, []), (.bipush 18, []), (.iconst 0, []), (.iconst 0, []), (.iload_n 1, []), (.invokevirtual 495, [1, 17, 25, 5, 1, 0, 1]), (.pop, []), (.aload_n 0, []), (.bipush 59, []), (.invokevirtual 453, [1, 17, 22, 2, 0, 0, 1]), (.return_, [])]),
  (false, [(.aload_n 0, []), (.iload_n 2, []), (.bipush 19, []), (.if_icmp .ne 7, [11]), (.iconst 1, []), (.goto 4, [12])]),
  (false, [(.iconst 0, []), (.nop, [12])]),
  (false, [(.iload_n 1, []), (.invokevirtual 523, [1, 17, 40, 3, 0, 0, 1]), (.return_, [])]),
  (false, [(.aload_n 0, []), (.bipush 12, []), (.iconst 0, []), (.iconst 0, []), (.iload_n 1, []), (.invokevirtual 495, [1, 17, 25, 5, 1, 0, 1]), (.pop, []), (.return_, [])])]
/-- TowerComputerModel.let()V -/
def m_17_39 : List am_B := [
  (false, [(.aload_n 0, []), (.invokevirtual 527, [1, 17, 24, 1, 1, 0, 1]), (.istore_n 1, []), (.aload_n 0, []), (.bipush 91, []), (.invokevirtual 429, [1, 17, 19, 2, 1, 0, 1]), (.istore_n 2, []), (.iload_n 2, []), (.ifCond .eq 46, [1]), (.aload_n 0, []), (.getfield 419, [17, 11, 0]), (.ifCond .ne 39, [1]), (.aload_n 0, []), (.iconst 4, []), (.iconst 0, []), (.iconst 0, []), (.iload_n 1, []), (.invokevirtual 495, [1, 17, 25, 5, 1, 0, 1]), (.pop, []), (.aload_n 0, []), (.bipush 91, []), (.invokevirtual 486, [1, 17, 27, 2, 0, 0, 1]), (.aload_n 0, []), (.invokevirtual 520, [1, 17, 45, 1, 0, 0, 1]), (.aload_n 0, []), (.bipush 93, []), (.invokevirtual 505, [1, 17, 28, 2, 0, 0, 1]), (.aload_n 0, []), (.bipush 6, []), (.bipush 43, []), (.iconst 0, []), (.iload_n 1, []), (.invokevirtual 495, [1, 17, 25, 5, 1, 0, 1]), (.pop, []), (.nop, [1])]),
  (true, [(.aload_n 0, []), (.bipush 61, []), (.invokevirtual 453, [1, 17, 22, 2, 0, 0, 1]), (.aload_n 0, []), (.invokevirtual 520, [1, 17, 45, 1, 0, 0, 1]), (.aload_n 0, []), (.bipush 59, []), (.invokevirtual 453, [1, 17, 22, 2, 0, 0, 1]), (.aload_n 0, []), (.iload_n 2, []), (.ifCond .eq 8, [2]), (.bipush 14, []), (.goto 5, [3])]),
  (false, [(.bipush 13, []), (.nop, [3])]),
  (false, [(.iconst 0, []), (.iconst 0, []), (.iload_n 1, []), (.invokevirtual 495, [1, 17, 25, 5, 1, 0, 1]), (.pop, []), (.return_, [])])]
/-- TowerComputerModel.branch(ZI)V -/
def m_17_40 : List am_B := [
  (false, [(.aload_n 0, []), (.getfield 480, [17, 50, 0]), (.istore_n 3, []), (.aload_n 0, []), (.aload_n 0, []), (.getfield 480, [17, 50, 0]), (.iconst 2, []), (.iadd, []), (.putfield 480, [17, 50, 0]), (.aload_n 0, []), (.getfield 441, [17, 33, 0]), (.istore 4, []), (.iload_n 1, []), (.ifCond .eq 23, [1]), (.aload_n 0, []), (.bipush 20, []), (.iload_n 3, []), (.iconst 0, []), (.iload_n 2, []), (.invokevirtual 495, [1, 17, 25, 5, 1, 0, 1]), (.pop, []), (.aload_n 0, []), (.bipush 17, []), (.iconst 0, []), (.iconst 0, []), (.iload_n 2, []), (.invokevirtual 495, [1, 17, 25, 5, 1, 0, 1]), (.pop, []), (.nop, [1])]),
  (true, [(.aload_n 0, []), (.bipush 40, []), (.invokevirtual 486, [1, 17, 27, 2, 0, 0, 1]), (.aload_n 0, []), (.invokevirtual 520, [1, 17, 45, 1, 0, 0, 1]), (.aload_n 0, []), (.bipush 41, []), (.invokevirtual 505, [1, 17, 28, 2, 0, 0, 1]), (.aload_n 0, []), (.bipush 15, []), (.iconst 0, []), (.iload_n 1, []), (.ifCond .eq 9, [2]), (.iload_n 3, []), (.iconst 1, []), (.iadd, []), (.goto 4, [3])]),
  (false, [(.iload_n 3, []), (.nop, [3])]),
  (true, [(.iload_n 2, []), (.invokevirtual 495, [1, 17, 25, 5, 1, 0, 1]), (.istore 5, []), (.aload_n 0, []), (.iload_n 1, []), (.ifCond .eq 7, [4]), (.iconst 3, []), (.goto 4, [5])]),
  (false, [(.iconst 1, []), (.nop, [5])]),
  (false, [(.iload_n 3, []), (.iload 5, []), (.iload 4, []), (.invokevirtual 511, [1, 17, 35, 5, 0, 0, 1]), (.return_, [])])]
/-- TowerComputerModel.call()V -/
def m_17_41 : List am_B := [
  (false, [(.aload_n 0, []), (.invokevirtual 527, [1, 17, 24, 1, 1, 0, 1]), (.istore_n 1, []), (.aload_n 0, []), (.getfield 419, [17, 11, 0]), (.ifCond .le 4, [1]), (.return_, [])]),
  (false, [(.aload_n 0, []), (.bipush 46, []), (.invokevirtual 429, [1, 17, 19, 2, 1, 0, 1]), (.ifCond .ne 17, [2]), (.aload_n 0, []), (.bipush 40, []), (.invokevirtual 429, [1, 17, 19, 2, 1, 0, 1]), (.ifCond .ne 8, [2]), (.aload_n 0, []), (.invokevirtual 435, [1, 17, 18, 1, 0, 0, 1]), (.return_, [])]),
  (true, [(.aload_n 0, []), (.iconst 0, []), (.putfield 530, [17, 51, 0]), (.aload_n 0, []), (.iconst 1, []), (.putfield 533, [17, 62, 3]), (.aload_n 0, []), (.iconst 0, []), (.invokevirtual 537, [1, 17, 42, 2, 0, 0, 1]), (.aload_n 0, []), (.iload_n 1, []), (.invokevirtual 540, [1, 17, 43, 2, 0, 0, 1]), (.aload_n 0, []), (.getfield 419, [17, 11, 0]), (.ifCond .ne 7, [3]), (.aload_n 0, []), (.invokevirtual 543, [1, 17, 46, 1, 0, 0, 1]), (.nop, [3])]),
  (false, [(.return_, [])])]
/-- TowerComputerModel.push(I)V -/
def m_17_42 : List am_B := [
  (false, [(.aload_n 0, []), (.getfield 119, [17, 52, 1]), (.aload_n 0, []), (.getfield 530, [17, 51, 0]), (.iload_n 1, []), (.iastore, []), (.aload_n 0, []), (.getfield 122, [17, 53, 1]), (.aload_n 0, []), (.getfield 530, [17, 51, 0]), (.iconst 0, []), (.iastore, []), (.aload_n 0, []), (.aload_n 0, []), (.getfield 530, [17, 51, 0]), (.iconst 1, []), (.iadd, []), (.putfield 530, [17, 51, 0]), (.return_, [])])]
/-- TowerComputerModel.beginCall(I)V -/
def m_17_43 : List am_B := [
  (false, [(.aload_n 0, []), (.getfield 546, [17, 39, 0]), (.istore_n 2, []), (.aload_n 0, []), (.aload_n 0, []), (.getfield 546, [17, 39, 0]), (.iconst 1, []), (.iadd, []), (.putfield 546, [17, 39, 0]), (.aload_n 0, []), (.getfield 95, [17, 40, 1]), (.iload_n 2, []), (.iconst (-1), []), (.iastore, []), (.aload_n 0, []), (.getfield 98, [17, 41, 1]), (.iload_n 2, []), (.iload_n 1, []), (.iastore, []), (.aload_n 0, []), (.getfield 101, [17, 42, 1]), (.iload_n 2, []), (.iconst 0, []), (.iastore, []), (.aload_n 0, []), (.getfield 116, [17, 47, 1]), (.iload_n 2, []), (.aload_n 0, []), (.getfield 444, [17, 17, 0]), (.iconst 1, []), (.isub, []), (.iastore, []), (.aload_n 0, []), (.bipush 46, []), (.invokevirtual 429, [1, 17, 19, 2, 1, 0, 1]), (.ifCond .eq 24, [1]), (.aload_n 0, []), (.invokevirtual 432, [1, 17, 21, 1, 0, 0, 1]), (.aload_n 0, []), (.getfield 95, [17, 40, 1]), (.iload_n 2, []), (.iload_n 1, []), (.iastore, []), (.aload_n 0, []), (.getfield 98, [17, 41, 1]), (.iload_n 2, []), (.aload_n 0, []), (.invokevirtual 527, [1, 17, 24, 1, 1, 0, 1]), (.iastore, []), (.nop, [1])]),
  (true, [(.aload_n 0, []), (.getfield 419, [17, 11, 0]), (.ifCond .le 4, [2]), (.return_, [])]),
  (false, [(.aload_n 0, []), (.bipush 40, []), (.invokevirtual 486, [1, 17, 27, 2, 0, 0, 1]), (.aload_n 0, []), (.bipush 9, []), (.iload_n 2, []), (.iconst 0, []), (.iload_n 1, []), (.invokevirtual 495, [1, 17, 25, 5, 1, 0, 1]), (.pop, []), (.aload_n 0, []), (.iconst 3, []), (.invokevirtual 537, [1, 17, 42, 2, 0, 0, 1]), (.aload_n 0, []), (.getfield 125, [17, 54, 1]), (.aload_n 0, []), (.getfield 530, [17, 51, 0]), (.iconst 1, []), (.isub, []), (.iload_n 2, []), (.iastore, []), (.aload_n 0, []), (.aload_n 0, []), (.bipush 41, []), (.invokevirtual 429, [1, 17, 19, 2, 1, 0, 1]), (.ifCond .ne 7, [3]), (.iconst 1, []), (.goto 4, [4])]),
  (false, [(.iconst 0, []), (.nop, [4])]),
  (false, [(.putfield 549, [17, 61, 3]), (.aload_n 0, []), (.getfield 549, [17, 61, 3]), (.ifCond .ne 7, [5]), (.aload_n 0, []), (.invokevirtual 552, [1, 17, 44, 1, 0, 0, 1]), (.nop, [5])]),
  (false, [(.return_, [])])]
/-- TowerComputerModel.closeCall()V -/
def m_17_44 : List am_B := [
  (false, [(.aload_n 0, []), (.bipush 41, []), (.invokevirtual 505, [1, 17, 28, 2, 0, 0, 1]), (.aload_n 0, []), (.aload_n 0, []), (.getfield 530, [17, 51, 0]), (.iconst 1, []), (.isub, []), (.putfield 530, [17, 51, 0]), (.aload_n 0, []), (.bipush 10, []), (.aload_n 0, []), (.getfield 125, [17, 54, 1]), (.aload_n 0, []), (.getfield 530, [17, 51, 0]), (.iaload, []), (.iconst 0, []), (.aload_n 0, []), (.getfield 98, [17, 41, 1]), (.aload_n 0, []), (.getfield 125, [17, 54, 1]), (.aload_n 0, []), (.getfield 530, [17, 51, 0]), (.iaload, []), (.iaload, []), (.invokevirtual 495, [1, 17, 25, 5, 1, 0, 1]), (.pop, []), (.return_, [])])]
/-- TowerComputerModel.expression()V -/
def m_17_45 : List am_B := [
  (false, [(.aload_n 0, []), (.getfield 419, [17, 11, 0]), (.ifCond .le 4, [1]), (.return_, [])]),
  (false, [(.aload_n 0, []), (.iconst 0, []), (.putfield 530, [17, 51, 0]), (.aload_n 0, []), (.iconst 0, []), (.putfield 533, [17, 62, 3]), (.aload_n 0, []), (.iconst 0, []), (.invokevirtual 537, [1, 17, 42, 2, 0, 0, 1]), (.aload_n 0, []), (.iconst 1, []), (.putfield 549, [17, 61, 3]), (.aload_n 0, []), (.invokevirtual 543, [1, 17, 46, 1, 0, 0, 1]), (.return_, [])])]
/-- TowerComputerModel.expressions()V -/
def m_17_46 : List am_B := [
  (true, [(.aload_n 0, []), (.getfield 419, [17, 11, 0]), (.ifCond .ne 31, [2]), (.aload_n 0, []), (.getfield 530, [17, 51, 0]), (.ifCond .le 24, [2]), (.aload_n 0, []), (.getfield 549, [17, 61, 3]), (.ifCond .eq 10, [1]), (.aload_n 0, []), (.invokevirtual 555, [1, 17, 47, 1, 0, 0, 1]), (.goto (-25), [0])]),
  (false, [(.aload_n 0, []), (.invokevirtual 558, [1, 17, 49, 1, 0, 0, 1]), (.goto (-32), [0])]),
  (false, [(.return_, [])])]
/-- TowerComputerModel.term()V -/
def m_17_47 : List am_B := [
  (false, [(.aload_n 0, []), (.getfield 381, [17, 10, 0]), (.istore_n 1, []), (.aload_n 0, []), (.iconst 0, []), (.putfield 549, [17, 61, 3]), (.aload_n 0, []), (.getfield 20, [17, 5, 1]), (.aload_n 0, []), (.getfield 381, [17, 10, 0]), (.iaload, []), (.iconst 2, []), (.if_icmp .ne 27, [1]), (.aload_n 0, []), (.iconst 0, []), (.aload_n 0, []), (.getfield 29, [17, 8, 1]), (.aload_n 0, []), (.getfield 381, [17, 10, 0]), (.iaload, []), (.iconst 0, []), (.iload_n 1, []), (.invokevirtual 495, [1, 17, 25, 5, 1, 0, 1]), (.pop, []), (.aload_n 0, []), (.invokevirtual 432, [1, 17, 21, 1, 0, 0, 1]), (.goto 281, [14])]),
  (false, [(.aload_n 0, []), (.getfield 20, [17, 5, 1]), (.aload_n 0, []), (.getfield 381, [17, 10, 0]), (.iaload, []), (.iconst 3, []), (.if_icmp .ne 56, [3]), (.aload_n 0, []), (.aload_n 0, []), (.getfield 561, [17, 49, 0]), (.aload_n 0, []), (.getfield 29, [17, 8, 1]), (.aload_n 0, []), (.getfield 381, [17, 10, 0]), (.iaload, []), (.iadd, []), (.putfield 561, [17, 49, 0]), (.aload_n 0, []), (.getfield 561, [17, 49, 0]), (.sipush 300, []), (.if_icmp .le 12, [2]), (.aload_n 0, []), (.iconst 2, []), (.aload_n 0, []), (.getfield 381, [17, 10, 0]), (.invokevirtual 425, [1, 17, 17, 3, 0, 0, 1]), (.nop, [2])]),
  (false, [(.aload_n 0, []), (.iconst 1, []), (.iconst 0, []), (.iconst 0, []), (.iload_n 1, []), (.invokevirtual 495, [1, 17, 25, 5, 1, 0, 1]), (.pop, []), (.aload_n 0, []), (.invokevirtual 432, [1, 17, 21, 1, 0, 0, 1]), (.goto 215, [14])]),
  (false, [(.aload_n 0, []), (.bipush 11, []), (.invokevirtual 438, [1, 17, 20, 2, 1, 0, 1]), (.ifCond .eq 19, [4]), (.aload_n 0, []), (.iconst 0, []), (.iconst (-1), []), (.iconst 0, []), (.iload_n 1, []), (.invokevirtual 495, [1, 17, 25, 5, 1, 0, 1]), (.pop, []), (.aload_n 0, []), (.invokevirtual 432, [1, 17, 21, 1, 0, 0, 1]), (.goto 190, [14])]),
  (false, [(.aload_n 0, []), (.bipush 12, []), (.invokevirtual 438, [1, 17, 20, 2, 1, 0, 1]), (.ifCond .ne 12, [5]), (.aload_n 0, []), (.bipush 13, []), (.invokevirtual 438, [1, 17, 20, 2, 1, 0, 1]), (.ifCond .eq 19, [6]), (.nop, [5])]),
  (false, [(.aload_n 0, []), (.iconst 0, []), (.iconst 0, []), (.iconst 0, []), (.iload_n 1, []), (.invokevirtual 495, [1, 17, 25, 5, 1, 0, 1]), (.pop, []), (.aload_n 0, []), (.invokevirtual 432, [1, 17, 21, 1, 0, 0, 1]), (.goto 156, [14])]),
  (false, [(.aload_n 0, []), (.bipush 14, []), (.invokevirtual 438, [1, 17, 20, 2, 1, 0, 1]), (.ifCond .eq 19, [7]), (.aload_n 0, []), (.iconst 3, []), (.iconst 0, []), (.iconst 0, []), (.iload_n 1, []), (.invokevirtual 495, [1, 17, 25, 5, 1, 0, 1]), (.pop, []), (.aload_n 0, []), (.invokevirtual 432, [1, 17, 21, 1, 0, 0, 1]), (.goto 131, [14])]),
  (false, [(.aload_n 0, []), (.bipush 40, []), (.invokevirtual 429, [1, 17, 19, 2, 1, 0, 1]), (.ifCond .eq 22, [8]), (.aload_n 0, []), (.bipush 40, []), (.invokevirtual 486, [1, 17, 27, 2, 0, 0, 1]), (.aload_n 0, []), (.iconst 1, []), (.invokevirtual 537, [1, 17, 42, 2, 0, 0, 1]), (.aload_n 0, []), (.iconst 1, []), (.putfield 549, [17, 61, 3]), (.goto 103, [14])]),
  (false, [(.aload_n 0, []), (.bipush 45, []), (.invokevirtual 429, [1, 17, 19, 2, 1, 0, 1]), (.ifCond .ne 12, [9]), (.aload_n 0, []), (.bipush 126, []), (.invokevirtual 429, [1, 17, 19, 2, 1, 0, 1]), (.ifCond .eq 56, [12]), (.nop, [9])]),
  (true, [(.aload_n 0, []), (.iconst 4, []), (.invokevirtual 537, [1, 17, 42, 2, 0, 0, 1]), (.aload_n 0, []), (.getfield 125, [17, 54, 1]), (.aload_n 0, []), (.getfield 530, [17, 51, 0]), (.iconst 1, []), (.isub, []), (.aload_n 0, []), (.getfield 29, [17, 8, 1]), (.aload_n 0, []), (.getfield 381, [17, 10, 0]), (.iaload, []), (.bipush 45, []), (.if_icmp .ne 8, [10]), (.bipush 7, []), (.goto 5, [11])]),
  (false, [(.bipush 8, []), (.nop, [11])]),
  (false, [(.iastore, []), (.aload_n 0, []), (.invokevirtual 450, [1, 17, 26, 1, 0, 0, 1]), (.aload_n 0, []), (.invokevirtual 432, [1, 17, 21, 1, 0, 0, 1]), (.aload_n 0, []), (.iconst 1, []), (.putfield 549, [17, 61, 3]), (.goto 32, [14])]),
  (false, [(.aload_n 0, []), (.getfield 20, [17, 5, 1]), (.aload_n 0, []), (.getfield 381, [17, 10, 0]), (.iaload, []), (.iconst 1, []), (.if_icmp .ne 15, [13]), (.aload_n 0, []), (.invokevirtual 432, [1, 17, 21, 1, 0, 0, 1]), (.aload_n 0, []), (.iload_n 1, []), (.invokevirtual 564, [1, 17, 48, 2, 0, 0, 1]), (.goto 7, [14])]),
  (false, [(.aload_n 0, []), (.invokevirtual 435, [1, 17, 18, 1, 0, 0, 1]), (.nop, [14])]),
  (false, [(.return_, [])])]
/-- TowerComputerModel.named(I)V -/
def m_17_48 : List am_B := [
  (false, [(.aload_n 0, []), (.bipush 46, []), (.invokevirtual 429, [1, 17, 19, 2, 1, 0, 1]), (.ifCond .ne 12, [1]), (.aload_n 0, []), (.bipush 40, []), (.invokevirtual 429, [1, 17, 19, 2, 1, 0, 1]), (.ifCond .eq 9, [2]), (.nop, [1])]),
  (false, [(.aload_n 0, []), (.iload_n 1, []), (.invokevirtual 540, [1, 17, 43, 2, 0, 0, 1]), (.return_, [])]),
  (false, [(.aload_n 0, []), (.iconst 4, []), (.iconst 0, []), (.iconst 0, []), (.iload_n 1, []), (.invokevirtual 495, [1, 17, 25, 5, 1, 0, 1]), (.pop, []), (.aload_n 0, []), (.bipush 91, []), (.invokevirtual 429, [1, 17, 19, 2, 1, 0, 1]), (.ifCond .ne 4, [3]), (.return_, [])]),
  (false, [(.aload_n 0, []), (.bipush 91, []), (.invokevirtual 486, [1, 17, 27, 2, 0, 0, 1]), (.aload_n 0, []), (.iconst 2, []), (.invokevirtual 537, [1, 17, 42, 2, 0, 0, 1]), (.aload_n 0, []), (.iconst 1, []), (.putfield 549, [17, 61, 3]), (.return_, [])])]
/-- TowerComputerModel.behindTerm()V -/
def m_17_49 : List am_B := [
  (true, [(.aload_n 0, []), (.getfield 119, [17, 52, 1]), (.aload_n 0, []), (.getfield 530, [17, 51, 0]), (.iconst 1, []), (.isub, []), (.iaload, []), (.iconst 4, []), (.if_icmp .ne 46, [1]), (.aload_n 0, []), (.aload_n 0, []), (.getfield 530, [17, 51, 0]), (.iconst 1, []), (.isub, []), (.putfield 530, [17, 51, 0]), (.aload_n 0, []), (.aload_n 0, []), (.getfield 447, [17, 48, 0]), (.iconst 1, []), (.isub, []), (.putfield 447, [17, 48, 0]), (.aload_n 0, []), (.aload_n 0, []), (.getfield 125, [17, 54, 1]), (.aload_n 0, []), (.getfield 530, [17, 51, 0]), (.iaload, []), (.iconst 0, []), (.iconst 0, []), (.aload_n 0, []), (.getfield 381, [17, 10, 0]), (.invokevirtual 495, [1, 17, 25, 5, 1, 0, 1]), (.pop, []), (.goto (-55), [0])]),
  (false, [(.aload_n 0, []), (.getfield 530, [17, 51, 0]), (.iconst 1, []), (.isub, []), (.istore_n 1, []), (.aload_n 0, []), (.getfield 122, [17, 53, 1]), (.iload_n 1, []), (.iaload, []), (.ifCond .eq 21, [2]), (.aload_n 0, []), (.bipush 6, []), (.aload_n 0, []), (.getfield 122, [17, 53, 1]), (.iload_n 1, []), (.iaload, []), (.iconst 0, []), (.aload_n 0, []), (.getfield 381, [17, 10, 0]), (.invokevirtual 495, [1, 17, 25, 5, 1, 0, 1]), (.pop, []), (.nop, [2])]),
  (true, [(.aload_n 0, []), (.getfield 122, [17, 53, 1]), (.iload_n 1, []), (.iconst 0, []), (.iastore, []), (.aload_n 0, []), (.getfield 119, [17, 52, 1]), (.iload_n 1, []), (.iaload, []), (.ifCond .ne 16, [3]), (.aload_n 0, []), (.getfield 533, [17, 62, 3]), (.ifCond .eq 9, [3]), (.aload_n 0, []), (.iconst 0, []), (.putfield 530, [17, 51, 0]), (.return_, [])]),
  (true, [(.aload_n 0, []), (.invokevirtual 567, [1, 17, 50, 1, 1, 0, 1]), (.ifCond .eq 28, [4]), (.aload_n 0, []), (.getfield 122, [17, 53, 1]), (.iload_n 1, []), (.aload_n 0, []), (.getfield 29, [17, 8, 1]), (.aload_n 0, []), (.getfield 381, [17, 10, 0]), (.iaload, []), (.iastore, []), (.aload_n 0, []), (.invokevirtual 432, [1, 17, 21, 1, 0, 0, 1]), (.aload_n 0, []), (.iconst 1, []), (.putfield 549, [17, 61, 3]), (.return_, [])]),
  (false, [(.aload_n 0, []), (.getfield 119, [17, 52, 1]), (.iload_n 1, []), (.iaload, []), (.tableswitch 67 0 2 #[25, 31, 43], [8, 5, 6, 7])]),
  (false, [(.aload_n 0, []), (.iconst 0, []), (.putfield 530, [17, 51, 0]), (.return_, [])]),
  (false, [(.aload_n 0, []), (.bipush 41, []), (.invokevirtual 505, [1, 17, 28, 2, 0, 0, 1]), (.aload_n 0, []), (.iload_n 1, []), (.putfield 530, [17, 51, 0]), (.return_, [])]),
  (false, [(.aload_n 0, []), (.bipush 93, []), (.invokevirtual 505, [1, 17, 28, 2, 0, 0, 1]), (.aload_n 0, []), (.iload_n 1, []), (.putfield 530, [17, 51, 0]), (.aload_n 0, []), (.iconst 5, []), (.iconst 0, []), (.iconst 0, []), (.aload_n 0, []), (.getfield 381, [17, 10, 0]), (.invokevirtual 495, [1, 17, 25, 5, 1, 0, 1]), (.pop, []), (.return_, [])]),
  (false, [(.aload_n 0, []), (.getfield 101, [17, 42, 1]), (.aload_n 0, []), (.getfield 125, [17, 54, 1]), (.iload_n 1, []), (.iaload, []), (.aload_n 0, []), (.getfield 101, [17, 42, 1]), (.aload_n 0, []), (.getfield 125, [17, 54, 1]), (.iload_n 1, []), (.iaload, []), (.iaload, []), (.iconst 1, []), (.iadd, []), (.iastore, []), (.aload_n 0, []), (.bipush 44, []), (.invokevirtual 429, [1, 17, 19, 2, 1, 0, 1]), (.ifCond .eq 13, [9]), (.aload_n 0, []), (.invokevirtual 432, [1, 17, 21, 1, 0, 0, 1]), (.aload_n 0, []), (.iconst 1, []), (.putfield 549, [17, 61, 3]), (.return_, [])]),
  (false, [(.aload_n 0, []), (.invokevirtual 552, [1, 17, 44, 1, 0, 0, 1]), (.return_, [])])]
/-- TowerComputerModel.isOperator()Z -/
def m_17_50 : List am_B := [
  (false, [(.aload_n 0, []), (.bipush 43, []), (.invokevirtual 429, [1, 17, 19, 2, 1, 0, 1]), (.ifCond .ne 75, [1]), (.aload_n 0, []), (.bipush 45, []), (.invokevirtual 429, [1, 17, 19, 2, 1, 0, 1]), (.ifCond .ne 66, [1]), (.aload_n 0, []), (.bipush 42, []), (.invokevirtual 429, [1, 17, 19, 2, 1, 0, 1]), (.ifCond .ne 57, [1]), (.aload_n 0, []), (.bipush 47, []), (.invokevirtual 429, [1, 17, 19, 2, 1, 0, 1]), (.ifCond .ne 48, [1]), (.aload_n 0, []), (.bipush 38, []), (.invokevirtual 429, [1, 17, 19, 2, 1, 0, 1]), (.ifCond .ne 39, [1]), (.aload_n 0, []), (.bipush 124, []), (.invokevirtual 429, [1, 17, 19, 2, 1, 0, 1]), (.ifCond .ne 30, [1]), (.aload_n 0, []), (.bipush 60, []), (.invokevirtual 429, [1, 17, 19, 2, 1, 0, 1]), (.ifCond .ne 21, [1]), (.aload_n 0, []), (.bipush 62, []), (.invokevirtual 429, [1, 17, 19, 2, 1, 0, 1]), (.ifCond .ne 12, [1]), (.aload_n 0, []), (.bipush 61, []), (.invokevirtual 429, [1, 17, 19, 2, 1, 0, 1]), (.ifCond .eq 7, [2]), (.nop, [1])]),
  (false, [(.iconst 1, []), (.goto 4, [3])]),
  (false, [(.iconst 0, []), (.nop, [3])]),
  (false, [(.ireturn, [1])])]
/-- TowerComputerModel.texts()V -/
def m_17_51 : List am_B := [
  (false, [(.aload_n 0, []), (.iconst 0, []), (.putfield 419, [17, 11, 0]), (.aload_n 0, []), (.iconst 0, []), (.putfield 459, [17, 14, 0]), (.aload_n 0, []), (.iconst 0, []), (.putfield 466, [17, 16, 0]), (.aload_n 0, []), (.iconst 0, []), (.putfield 444, [17, 17, 0]), (.aload_n 0, []), (.iconst 0, []), (.putfield 456, [17, 25, 0]), (.aload_n 0, []), (.iconst 0, []), (.putfield 441, [17, 33, 0]), (.aload_n 0, []), (.iconst 0, []), (.putfield 546, [17, 39, 0]), (.aload_n 0, []), (.iconst 0, []), (.putfield 447, [17, 48, 0]), (.aload_n 0, []), (.iconst 0, []), (.putfield 561, [17, 49, 0]), (.nop, [1])]),
  (true, [(.aload_n 0, []), (.getfield 419, [17, 11, 0]), (.ifCond .ne 212, [12]), (.aload_n 0, []), (.getfield 20, [17, 5, 1]), (.aload_n 0, []), (.getfield 381, [17, 10, 0]), (.iaload, []), (.ifCond .eq 200, [12]), (.aload_n 0, []), (.iconst 0, []), (.invokevirtual 571, [1, 17, 23, 2, 0, 0, 1]), (.aload_n 0, []), (.getfield 419, [17, 11, 0]), (.ifCond .ne 20, [2]), (.aload_n 0, []), (.getfield 20, [17, 5, 1]), (.aload_n 0, []), (.getfield 381, [17, 10, 0]), (.iaload, []), (.iconst 1, []), (.if_icmp .eq 7, [2]), (.aload_n 0, []), (.invokevirtual 435, [1, 17, 18, 1, 0, 0, 1]), (.nop, [2])]),
  (false, [(.aload_n 0, []), (.getfield 419, [17, 11, 0]), (.ifCond .ne 17, [3]), (.aload_n 0, []), (.aload_n 0, []), (.getfield 459, [17, 14, 0]), (.bipush 12, []), (.aload_n 0, []), (.getfield 381, [17, 10, 0]), (.invokevirtual 469, [1, 17, 29, 4, 0, 0, 1]), (.nop, [3])]),
  (true, [(.aload_n 0, []), (.getfield 419, [17, 11, 0]), (.ifCond .le 4, [4]), (.return_, [])]),
  (false, [(.aload_n 0, []), (.getfield 32, [17, 13, 1]), (.aload_n 0, []), (.getfield 459, [17, 14, 0]), (.aload_n 0, []), (.getfield 381, [17, 10, 0]), (.iastore, []), (.aload_n 0, []), (.getfield 35, [17, 15, 1]), (.aload_n 0, []), (.getfield 459, [17, 14, 0]), (.iconst 0, []), (.iastore, []), (.aload_n 0, []), (.aload_n 0, []), (.getfield 459, [17, 14, 0]), (.iconst 1, []), (.iadd, []), (.putfield 459, [17, 14, 0]), (.aload_n 0, []), (.iconst 0, []), (.putfield 473, [17, 60, 0]), (.aload_n 0, []), (.invokevirtual 432, [1, 17, 21, 1, 0, 0, 1]), (.aload_n 0, []), (.bipush 123, []), (.invokevirtual 486, [1, 17, 27, 2, 0, 0, 1]), (.nop, [5])]),
  (true, [(.aload_n 0, []), (.getfield 419, [17, 11, 0]), (.ifCond .ne 40, [9]), (.aload_n 0, []), (.iconst 5, []), (.invokevirtual 438, [1, 17, 20, 2, 1, 0, 1]), (.ifCond .ne 11, [6]), (.aload_n 0, []), (.iconst 4, []), (.invokevirtual 438, [1, 17, 20, 2, 1, 0, 1]), (.ifCond .eq 24, [9]), (.nop, [6])]),
  (true, [(.aload_n 0, []), (.iconst (-1), []), (.aload_n 0, []), (.iconst 5, []), (.invokevirtual 438, [1, 17, 20, 2, 1, 0, 1]), (.ifCond .eq 7, [7]), (.iconst 0, []), (.goto 4, [8])]),
  (false, [(.iconst 1, []), (.nop, [8])]),
  (false, [(.invokevirtual 489, [1, 17, 32, 3, 0, 0, 1]), (.goto (-41), [5])]),
  (true, [(.aload_n 0, []), (.getfield 419, [17, 11, 0]), (.ifCond .ne 34, [11]), (.aload_n 0, []), (.iconst 1, []), (.invokevirtual 438, [1, 17, 20, 2, 1, 0, 1]), (.ifCond .ne 19, [10]), (.aload_n 0, []), (.iconst 2, []), (.invokevirtual 438, [1, 17, 20, 2, 1, 0, 1]), (.ifCond .ne 11, [10]), (.aload_n 0, []), (.iconst 3, []), (.invokevirtual 438, [1, 17, 20, 2, 1, 0, 1]), (.ifCond .eq 10, [11]), (.nop, [10])]),
  (false, [(.aload_n 0, []), (.invokevirtual 574, [1, 17, 34, 1, 0, 0, 1]), (.goto (-35), [9])]),
  (false, [(.aload_n 0, []), (.bipush 125, []), (.invokevirtual 505, [1, 17, 28, 2, 0, 0, 1]), (.goto (-213), [1])]),
  (false, [(.return_, [])])]
/-- TowerComputerModel.system()V -/
def m_17_52 : List am_B := [
  (false, [(.iconst 0, []), (.istore_n 1, []), (.iconst 0, []), (.istore_n 2, []), (.iconst 0, []), (.istore_n 3, []), (.nop, [1])]),
  (true, [(.iload_n 3, []), (.getstatic 577, [168]), (.arraylength, [1]), (.if_icmp .ge 110, [7]), (.getstatic 577, [168]), (.iload_n 3, []), (.caload, []), (.bipush 33, []), (.if_icmp .ne 26, [2]), (.aload_n 0, []), (.getfield 143, [17, 64, 1]), (.iload_n 1, []), (.iload_n 3, []), (.iconst 1, []), (.iadd, []), (.iastore, []), (.aload_n 0, []), (.getfield 140, [17, 63, 1]), (.iload_n 1, []), (.iload_n 2, []), (.iastore, []), (.iload_n 1, []), (.iconst 1, []), (.iadd, []), (.istore_n 1, []), (.goto 53, [5])]),
  (false, [(.aload_n 0, []), (.getfield 149, [17, 66, 1]), (.iload_n 2, []), (.getstatic 577, [168]), (.iload_n 3, []), (.caload, []), (.bipush 35, []), (.if_icmp .ne 7, [3]), (.iconst 1, []), (.goto 4, [4])]),
  (false, [(.iconst 0, []), (.nop, [4])]),
  (true, [(.bastore, [4]), (.aload_n 0, []), (.getfield 153, [17, 67, 1]), (.iload_n 2, []), (.getstatic 577, [168]), (.iload_n 3, []), (.iconst 1, []), (.iadd, []), (.caload, []), (.bipush 48, []), (.isub, []), (.iastore, []), (.aload_n 0, []), (.getfield 146, [17, 65, 1]), (.iload_n 2, []), (.iload_n 3, []), (.iconst 2, []), (.iadd, []), (.iastore, []), (.iload_n 2, []), (.iconst 1, []), (.iadd, []), (.istore_n 2, []), (.nop, [5])]),
  (true, [(.getstatic 577, [168]), (.iload_n 3, []), (.caload, []), (.bipush 32, []), (.if_icmp .eq 10, [6]), (.iload_n 3, []), (.iconst 1, []), (.iadd, []), (.istore_n 3, []), (.goto (-14), [5])]),
  (false, [(.iload_n 3, []), (.iconst 1, []), (.iadd, []), (.istore_n 3, []), (.goto (-112), [1])]),
  (false, [(.aload_n 0, []), (.getfield 140, [17, 63, 1]), (.bipush 8, []), (.iload_n 2, []), (.iastore, []), (.return_, [])])]
/-- TowerComputerModel.isSystem(II)Z -/
def m_17_53 : List am_B := [
  (false, [(.iconst 0, []), (.istore_n 3, []), (.nop, [1])]),
  (true, [(.iload_n 3, []), (.aload_n 0, []), (.getfield 26, [17, 7, 1]), (.iload_n 1, []), (.iaload, []), (.if_icmp .ge 33, [2]), (.getstatic 577, [168]), (.iload_n 2, []), (.iload_n 3, []), (.iadd, []), (.caload, []), (.aload_n 0, []), (.getfield 13, [17, 2, 1]), (.aload_n 0, []), (.getfield 23, [17, 6, 1]), (.iload_n 1, []), (.iaload, []), (.iload_n 3, []), (.iadd, []), (.iaload, []), (.if_icmp .ne 10, [2]), (.iload_n 3, []), (.iconst 1, []), (.iadd, []), (.istore_n 3, []), (.goto (-37), [1])]),
  (true, [(.iload_n 3, []), (.aload_n 0, []), (.getfield 26, [17, 7, 1]), (.iload_n 1, []), (.iaload, []), (.if_icmp .ne 19, [3]), (.getstatic 577, [168]), (.iload_n 2, []), (.iload_n 3, []), (.iadd, []), (.caload, []), (.bipush 32, []), (.if_icmp .ne 7, [3]), (.iconst 1, []), (.goto 4, [4])]),
  (false, [(.iconst 0, []), (.nop, [4])]),
  (false, [(.ireturn, [1])])]
/-- TowerComputerModel.systemClass(I)I -/
def m_17_54 : List am_B := [
  (false, [(.iconst 0, []), (.istore_n 2, []), (.nop, [1])]),
  (true, [(.iload_n 2, []), (.bipush 8, []), (.if_icmp .ge 25, [3]), (.aload_n 0, []), (.iload_n 1, []), (.aload_n 0, []), (.getfield 143, [17, 64, 1]), (.iload_n 2, []), (.iaload, []), (.invokevirtual 580, [1, 17, 53, 3, 1, 0, 1]), (.ifCond .eq 5, [2]), (.iload_n 2, []), (.ireturn, [])]),
  (false, [(.iinc 2 1, []), (.goto (-25), [1])]),
  (false, [(.iconst (-1), []), (.ireturn, [])])]
/-- TowerComputerModel.classOf(I)I -/
def m_17_55 : List am_B := [
  (false, [(.aload_n 0, []), (.iload_n 1, []), (.invokevirtual 584, [1, 17, 54, 2, 1, 0, 1]), (.istore_n 2, []), (.iconst 0, []), (.istore_n 3, []), (.nop, [1])]),
  (true, [(.iload_n 3, []), (.aload_n 0, []), (.getfield 459, [17, 14, 0]), (.if_icmp .ge 37, [4]), (.iload_n 2, []), (.iconst (-1), []), (.if_icmp .ne 32, [4]), (.aload_n 0, []), (.aload_n 0, []), (.getfield 32, [17, 13, 1]), (.iload_n 3, []), (.iaload, []), (.iload_n 1, []), (.invokevirtual 587, [1, 17, 16, 3, 1, 0, 1]), (.ifCond .eq 10, [2]), (.bipush 8, []), (.iload_n 3, []), (.iadd, []), (.goto 4, [3])]),
  (false, [(.iconst (-1), []), (.nop, [3])]),
  (false, [(.istore_n 2, []), (.iinc 3 1, []), (.goto (-39), [1])]),
  (false, [(.iload_n 2, []), (.ireturn, [])])]
/-- TowerComputerModel.subOf(II)I -/
def m_17_56 : List am_B := [
  (false, [(.iload_n 1, []), (.bipush 8, []), (.if_icmp .ge 46, [4]), (.aload_n 0, []), (.getfield 140, [17, 63, 1]), (.iload_n 1, []), (.iaload, []), (.istore_n 3, []), (.nop, [1])]),
  (true, [(.iload_n 3, []), (.aload_n 0, []), (.getfield 140, [17, 63, 1]), (.iload_n 1, []), (.iconst 1, []), (.iadd, []), (.iaload, []), (.if_icmp .ge 25, [3]), (.aload_n 0, []), (.iload_n 2, []), (.aload_n 0, []), (.getfield 146, [17, 65, 1]), (.iload_n 3, []), (.iaload, []), (.invokevirtual 580, [1, 17, 53, 3, 1, 0, 1]), (.ifCond .eq 5, [2]), (.iload_n 3, []), (.ireturn, [])]),
  (false, [(.iinc 3 1, []), (.goto (-31), [1])]),
  (false, [(.iconst (-1), []), (.ireturn, [])]),
  (false, [(.iconst 0, []), (.istore_n 3, []), (.nop, [5])]),
  (true, [(.iload_n 3, []), (.aload_n 0, []), (.getfield 444, [17, 17, 0]), (.if_icmp .ge 38, [7]), (.aload_n 0, []), (.getfield 38, [17, 18, 1]), (.iload_n 3, []), (.iaload, []), (.iload_n 1, []), (.bipush 8, []), (.isub, []), (.if_icmp .ne 19, [6]), (.aload_n 0, []), (.aload_n 0, []), (.getfield 44, [17, 20, 1]), (.iload_n 3, []), (.iaload, []), (.iload_n 2, []), (.invokevirtual 587, [1, 17, 16, 3, 1, 0, 1]), (.ifCond .eq 5, [6]), (.iload_n 3, []), (.ireturn, [])]),
  (false, [(.iinc 3 1, []), (.goto (-40), [5])]),
  (false, [(.iconst (-1), []), (.ireturn, [])])]
/-- TowerComputerModel.variableOf(II)I -/
def m_17_57 : List am_B := [
  (false, [(.iconst (-1), []), (.istore_n 3, []), (.iconst (-1), []), (.istore 4, []), (.iconst (-1), []), (.istore 5, []), (.aload_n 0, []), (.getfield 456, [17, 25, 0]), (.iconst 1, []), (.isub, []), (.istore 6, []), (.nop, [1])]),
  (true, [(.iload 6, []), (.ifCond .lt 124, [6]), (.aload_n 0, []), (.aload_n 0, []), (.getfield 68, [17, 29, 1]), (.iload 6, []), (.iaload, []), (.iload_n 2, []), (.invokevirtual 587, [1, 17, 16, 3, 1, 0, 1]), (.ifCond .ne 6, [2]), (.goto 100, [5])]),
  (false, [(.aload_n 0, []), (.getfield 62, [17, 27, 1]), (.iload 6, []), (.iaload, []), (.iload_n 1, []), (.if_icmp .ne 6, [3]), (.iload 6, []), (.istore_n 3, []), (.nop, [3])]),
  (true, [(.aload_n 0, []), (.getfield 62, [17, 27, 1]), (.iload 6, []), (.iaload, []), (.iconst (-1), []), (.if_icmp .ne 34, [4]), (.aload_n 0, []), (.getfield 59, [17, 26, 1]), (.iload 6, []), (.iaload, []), (.aload_n 0, []), (.getfield 38, [17, 18, 1]), (.iload_n 1, []), (.iaload, []), (.if_icmp .ne 18, [4]), (.aload_n 0, []), (.getfield 65, [17, 28, 1]), (.iload 6, []), (.iaload, []), (.iconst 1, []), (.if_icmp .ne 7, [4]), (.iload 6, []), (.istore 4, []), (.nop, [4])]),
  (true, [(.aload_n 0, []), (.getfield 62, [17, 27, 1]), (.iload 6, []), (.iaload, []), (.iconst (-1), []), (.if_icmp .ne 33, [5]), (.aload_n 0, []), (.getfield 59, [17, 26, 1]), (.iload 6, []), (.iaload, []), (.aload_n 0, []), (.getfield 38, [17, 18, 1]), (.iload_n 1, []), (.iaload, []), (.if_icmp .ne 17, [5]), (.aload_n 0, []), (.getfield 65, [17, 28, 1]), (.iload 6, []), (.iaload, []), (.ifCond .ne 7, [5]), (.iload 6, []), (.istore 5, []), (.nop, [5])]),
  (false, [(.iinc 6 (-1), []), (.goto (-123), [1])]),
  (false, [(.iload_n 3, []), (.iconst (-1), []), (.if_icmp .eq 7, [7]), (.iload_n 3, []), (.goto 16, [9])]),
  (false, [(.iload 4, []), (.iconst (-1), []), (.if_icmp .eq 8, [8]), (.iload 4, []), (.goto 5, [9])]),
  (false, [(.iload 5, []), (.nop, [9])]),
  (false, [(.ireturn, [])])]
/-- TowerComputerModel.note(II)V -/
def m_17_58 : List am_B := [
  (false, [(.aload_n 0, []), (.getfield 590, [17, 69, 0]), (.ifCond .le 38, [2]), (.aload_n 0, []), (.getfield 593, [17, 70, 0]), (.aload_n 0, []), (.getfield 23, [17, 6, 1]), (.iload_n 2, []), (.iaload, []), (.if_icmp .lt 24, [1]), (.aload_n 0, []), (.getfield 593, [17, 70, 0]), (.aload_n 0, []), (.getfield 23, [17, 6, 1]), (.iload_n 2, []), (.iaload, []), (.if_icmp .ne 12, [2]), (.aload_n 0, []), (.getfield 590, [17, 69, 0]), (.iload_n 1, []), (.if_icmp .gt 4, [2]), (.nop, [1])]),
  (false, [(.return_, [])]),
  (false, [(.aload_n 0, []), (.iload_n 1, []), (.putfield 590, [17, 69, 0]), (.aload_n 0, []), (.aload_n 0, []), (.getfield 23, [17, 6, 1]), (.iload_n 2, []), (.iaload, []), (.putfield 593, [17, 70, 0]), (.return_, [])])]
/-- TowerComputerModel.checkType(I)V -/
def m_17_59 : List am_B := [
  (false, [(.iload_n 1, []), (.iconst (-1), []), (.if_icmp .eq 28, [1]), (.aload_n 0, []), (.getfield 20, [17, 5, 1]), (.iload_n 1, []), (.iaload, []), (.iconst 1, []), (.if_icmp .ne 18, [1]), (.aload_n 0, []), (.iload_n 1, []), (.invokevirtual 596, [1, 17, 55, 2, 1, 0, 1]), (.iconst (-1), []), (.if_icmp .ne 9, [1]), (.aload_n 0, []), (.iconst 4, []), (.iload_n 1, []), (.invokevirtual 599, [1, 17, 58, 3, 0, 0, 1]), (.nop, [1])]),
  (false, [(.return_, [])])]
/-- TowerComputerModel.checkNames()V -/
def m_17_60 : List am_B := [
  (false, [(.iconst 0, []), (.istore_n 1, []), (.nop, [1])]),
  (true, [(.iload_n 1, []), (.aload_n 0, []), (.getfield 459, [17, 14, 0]), (.if_icmp .ge 86, [10]), (.aload_n 0, []), (.aload_n 0, []), (.getfield 32, [17, 13, 1]), (.iload_n 1, []), (.iaload, []), (.invokevirtual 584, [1, 17, 54, 2, 1, 0, 1]), (.iconst (-1), []), (.if_icmp .eq 7, [2]), (.iconst 1, []), (.goto 4, [3])]),
  (false, [(.iconst 0, []), (.nop, [3])]),
  (false, [(.istore_n 2, []), (.iconst 0, []), (.istore_n 3, []), (.nop, [4])]),
  (true, [(.iload_n 3, []), (.iload_n 1, []), (.if_icmp .ge 38, [8]), (.iload_n 2, []), (.ifCond .ne 22, [5]), (.aload_n 0, []), (.aload_n 0, []), (.getfield 32, [17, 13, 1]), (.iload_n 3, []), (.iaload, []), (.aload_n 0, []), (.getfield 32, [17, 13, 1]), (.iload_n 1, []), (.iaload, []), (.invokevirtual 587, [1, 17, 16, 3, 1, 0, 1]), (.ifCond .eq 7, [6]), (.nop, [5])]),
  (false, [(.iconst 1, []), (.goto 4, [7])]),
  (false, [(.iconst 0, []), (.nop, [7])]),
  (false, [(.istore_n 2, []), (.iinc 3 1, []), (.goto (-37), [4])]),
  (false, [(.iload_n 2, []), (.ifCond .eq 14, [9]), (.aload_n 0, []), (.iconst 3, []), (.aload_n 0, []), (.getfield 32, [17, 13, 1]), (.iload_n 1, []), (.iaload, []), (.invokevirtual 599, [1, 17, 58, 3, 0, 0, 1]), (.nop, [9])]),
  (false, [(.iinc 1 1, []), (.goto (-88), [1])]),
  (false, [(.iconst 0, []), (.istore_n 1, []), (.nop, [11])]),
  (true, [(.iload_n 1, []), (.aload_n 0, []), (.getfield 444, [17, 17, 0]), (.if_icmp .ge 115, [20]), (.iconst 0, []), (.istore_n 2, []), (.iload_n 1, []), (.istore_n 3, []), (.iload_n 1, []), (.iconst 1, []), (.isub, []), (.istore 4, []), (.nop, [12])]),
  (true, [(.iload 4, []), (.ifCond .lt 61, [18]), (.aload_n 0, []), (.getfield 38, [17, 18, 1]), (.iload 4, []), (.iaload, []), (.aload_n 0, []), (.getfield 38, [17, 18, 1]), (.iload_n 1, []), (.iaload, []), (.if_icmp .eq 6, [13]), (.goto 36, [17])]),
  (false, [(.iload_n 2, []), (.ifCond .ne 23, [14]), (.aload_n 0, []), (.aload_n 0, []), (.getfield 44, [17, 20, 1]), (.iload 4, []), (.iaload, []), (.aload_n 0, []), (.getfield 44, [17, 20, 1]), (.iload_n 1, []), (.iaload, []), (.invokevirtual 587, [1, 17, 16, 3, 1, 0, 1]), (.ifCond .eq 7, [15]), (.nop, [14])]),
  (false, [(.iconst 1, []), (.goto 4, [16])]),
  (false, [(.iconst 0, []), (.nop, [16])]),
  (false, [(.istore_n 2, []), (.iload 4, []), (.istore_n 3, []), (.nop, [17])]),
  (false, [(.iinc 4 (-1), []), (.goto (-60), [12])]),
  (false, [(.aload_n 0, []), (.getfield 156, [17, 68, 1]), (.iload_n 1, []), (.iload_n 1, []), (.iload_n 3, []), (.isub, []), (.iastore, []), (.iload_n 2, []), (.ifCond .eq 14, [19]), (.aload_n 0, []), (.iconst 3, []), (.aload_n 0, []), (.getfield 44, [17, 20, 1]), (.iload_n 1, []), (.iaload, []), (.invokevirtual 599, [1, 17, 58, 3, 0, 0, 1]), (.nop, [19])]),
  (false, [(.aload_n 0, []), (.aload_n 0, []), (.getfield 47, [17, 21, 1]), (.iload_n 1, []), (.iaload, []), (.invokevirtual 602, [1, 17, 59, 2, 0, 0, 1]), (.iinc 1 1, []), (.goto (-117), [11])]),
  (false, [(.iconst 0, []), (.istore_n 1, []), (.nop, [21])]),
  (true, [(.iload_n 1, []), (.aload_n 0, []), (.getfield 456, [17, 25, 0]), (.if_icmp .ge 120, [30]), (.iconst 0, []), (.istore_n 2, []), (.iconst 0, []), (.istore_n 3, []), (.nop, [22])]),
  (true, [(.iload_n 3, []), (.iload_n 1, []), (.if_icmp .ge 80, [28]), (.aload_n 0, []), (.getfield 62, [17, 27, 1]), (.iload_n 3, []), (.iaload, []), (.aload_n 0, []), (.getfield 62, [17, 27, 1]), (.iload_n 1, []), (.iaload, []), (.if_icmp .ne 22, [23]), (.aload_n 0, []), (.getfield 59, [17, 26, 1]), (.iload_n 3, []), (.iaload, []), (.aload_n 0, []), (.getfield 59, [17, 26, 1]), (.iload_n 1, []), (.iaload, []), (.if_icmp .ne 7, [23]), (.iconst 1, []), (.goto 4, [24])]),
  (false, [(.iconst 0, []), (.nop, [24])]),
  (true, [(.istore 4, []), (.iload_n 2, []), (.ifCond .ne 27, [25]), (.iload 4, []), (.ifCond .eq 26, [26]), (.aload_n 0, []), (.aload_n 0, []), (.getfield 68, [17, 29, 1]), (.iload_n 3, []), (.iaload, []), (.aload_n 0, []), (.getfield 68, [17, 29, 1]), (.iload_n 1, []), (.iaload, []), (.invokevirtual 587, [1, 17, 16, 3, 1, 0, 1]), (.ifCond .eq 7, [26]), (.nop, [25])]),
  (false, [(.iconst 1, []), (.goto 4, [27])]),
  (false, [(.iconst 0, []), (.nop, [27])]),
  (false, [(.istore_n 2, []), (.iinc 3 1, []), (.goto (-79), [22])]),
  (false, [(.iload_n 2, []), (.ifCond .eq 14, [29]), (.aload_n 0, []), (.iconst 3, []), (.aload_n 0, []), (.getfield 68, [17, 29, 1]), (.iload_n 1, []), (.iaload, []), (.invokevirtual 599, [1, 17, 58, 3, 0, 0, 1]), (.nop, [29])]),
  (false, [(.aload_n 0, []), (.aload_n 0, []), (.getfield 71, [17, 30, 1]), (.iload_n 1, []), (.iaload, []), (.invokevirtual 602, [1, 17, 59, 2, 0, 0, 1]), (.iinc 1 1, []), (.goto (-122), [21])]),
  (false, [(.return_, [])])]
/-- TowerComputerModel.checkVariable(III)V -/
def m_17_61 : List am_B := [
  (false, [(.iload_n 2, []), (.iconst (-1), []), (.if_icmp .eq 40, [1]), (.aload_n 0, []), (.getfield 62, [17, 27, 1]), (.iload_n 2, []), (.iaload, []), (.iconst (-1), []), (.if_icmp .ne 30, [1]), (.aload_n 0, []), (.getfield 65, [17, 28, 1]), (.iload_n 2, []), (.iaload, []), (.iconst 1, []), (.if_icmp .ne 20, [1]), (.aload_n 0, []), (.getfield 41, [17, 19, 1]), (.iload_n 1, []), (.iaload, []), (.iconst 2, []), (.if_icmp .ne 10, [1]), (.aload_n 0, []), (.bipush 6, []), (.iload_n 3, []), (.invokevirtual 599, [1, 17, 58, 3, 0, 0, 1]), (.nop, [1])]),
  (false, [(.return_, [])])]
/-- TowerComputerModel.checkItems()V -/
def m_17_62 : List am_B := [
  (false, [(.iconst 0, []), (.istore_n 1, []), (.nop, [1])]),
  (true, [(.iload_n 1, []), (.aload_n 0, []), (.getfield 441, [17, 33, 0]), (.if_icmp .ge 119, [6]), (.aload_n 0, []), (.getfield 92, [17, 38, 1]), (.iload_n 1, []), (.iaload, []), (.istore_n 2, []), (.aload_n 0, []), (.getfield 80, [17, 34, 1]), (.iload_n 1, []), (.iaload, []), (.iconst 3, []), (.if_icmp .ne 25, [2]), (.aload_n 0, []), (.getfield 41, [17, 19, 1]), (.iload_n 2, []), (.iaload, []), (.iconst 2, []), (.if_icmp .ne 15, [2]), (.aload_n 0, []), (.bipush 6, []), (.aload_n 0, []), (.getfield 89, [17, 37, 1]), (.iload_n 1, []), (.iaload, []), (.invokevirtual 599, [1, 17, 58, 3, 0, 0, 1]), (.nop, [2])]),
  (true, [(.aload_n 0, []), (.getfield 80, [17, 34, 1]), (.iload_n 1, []), (.iaload, []), (.iconst 4, []), (.if_icmp .eq 17, [3]), (.aload_n 0, []), (.getfield 80, [17, 34, 1]), (.iload_n 1, []), (.iaload, []), (.bipush 13, []), (.if_icmp .eq 6, [3]), (.goto 50, [5])]),
  (true, [(.aload_n 0, []), (.iload_n 2, []), (.aload_n 0, []), (.getfield 89, [17, 37, 1]), (.iload_n 1, []), (.iaload, []), (.invokevirtual 605, [1, 17, 57, 3, 1, 0, 1]), (.istore_n 3, []), (.iload_n 3, []), (.iconst (-1), []), (.if_icmp .ne 14, [4]), (.aload_n 0, []), (.iconst 4, []), (.aload_n 0, []), (.getfield 89, [17, 37, 1]), (.iload_n 1, []), (.iaload, []), (.invokevirtual 599, [1, 17, 58, 3, 0, 0, 1]), (.nop, [4])]),
  (true, [(.aload_n 0, []), (.iload_n 2, []), (.iload_n 3, []), (.aload_n 0, []), (.getfield 89, [17, 37, 1]), (.iload_n 1, []), (.iaload, []), (.invokevirtual 609, [1, 17, 61, 4, 0, 0, 1]), (.aload_n 0, []), (.getfield 83, [17, 35, 1]), (.iload_n 1, []), (.iload_n 3, []), (.iastore, []), (.nop, [5])]),
  (false, [(.iinc 1 1, []), (.goto (-121), [1])]),
  (false, [(.return_, [])])]
/-- TowerComputerModel.isMethod(II)Z -/
def m_17_63 : List am_B := [
  (false, [(.iload_n 1, []), (.bipush 8, []), (.if_icmp .ge 12, [1]), (.aload_n 0, []), (.getfield 149, [17, 66, 1]), (.iload_n 2, []), (.baload, [4]), (.goto 18, [3])]),
  (false, [(.aload_n 0, []), (.getfield 41, [17, 19, 1]), (.iload_n 2, []), (.iaload, []), (.iconst 3, []), (.if_icmp .ne 7, [2]), (.iconst 1, []), (.goto 4, [3])]),
  (false, [(.iconst 0, []), (.nop, [3])]),
  (false, [(.ireturn, [1])])]
/-- TowerComputerModel.manyOf(II)I -/
def m_17_64 : List am_B := [
  (false, [(.iload_n 1, []), (.bipush 8, []), (.if_icmp .ge 12, [1]), (.aload_n 0, []), (.getfield 153, [17, 67, 1]), (.iload_n 2, []), (.iaload, []), (.goto 9, [2])]),
  (false, [(.aload_n 0, []), (.getfield 50, [17, 22, 1]), (.iload_n 2, []), (.iaload, []), (.nop, [2])]),
  (false, [(.ireturn, [])])]
/-- TowerComputerModel.checkCall(I)V -/
def m_17_65 : List am_B := [
  (false, [(.aload_n 0, []), (.getfield 116, [17, 47, 1]), (.iload_n 1, []), (.iaload, []), (.istore_n 2, []), (.aload_n 0, []), (.getfield 98, [17, 41, 1]), (.iload_n 1, []), (.iaload, []), (.istore_n 3, []), (.bipush 8, []), (.aload_n 0, []), (.getfield 38, [17, 18, 1]), (.iload_n 2, []), (.iaload, []), (.iadd, []), (.istore 4, []), (.aload_n 0, []), (.getfield 104, [17, 43, 1]), (.iload_n 1, []), (.iconst 2, []), (.iastore, []), (.aload_n 0, []), (.getfield 95, [17, 40, 1]), (.iload_n 1, []), (.iaload, []), (.iconst (-1), []), (.if_icmp .eq 134, [8]), (.aload_n 0, []), (.iload_n 2, []), (.aload_n 0, []), (.getfield 95, [17, 40, 1]), (.iload_n 1, []), (.iaload, []), (.invokevirtual 605, [1, 17, 57, 3, 1, 0, 1]), (.istore 5, []), (.aload_n 0, []), (.getfield 104, [17, 43, 1]), (.iload_n 1, []), (.iload 5, []), (.iconst (-1), []), (.if_icmp .ne 7, [1]), (.iconst 0, []), (.goto 4, [2])]),
  (false, [(.iconst 1, []), (.nop, [2])]),
  (true, [(.iastore, []), (.aload_n 0, []), (.getfield 107, [17, 44, 1]), (.iload_n 1, []), (.iload 5, []), (.iastore, []), (.aload_n 0, []), (.iload_n 2, []), (.iload 5, []), (.aload_n 0, []), (.getfield 95, [17, 40, 1]), (.iload_n 1, []), (.iaload, []), (.invokevirtual 609, [1, 17, 61, 4, 0, 0, 1]), (.iload 5, []), (.iconst (-1), []), (.if_icmp .ne 16, [3]), (.aload_n 0, []), (.aload_n 0, []), (.getfield 95, [17, 40, 1]), (.iload_n 1, []), (.iaload, []), (.invokevirtual 596, [1, 17, 55, 2, 1, 0, 1]), (.goto 34, [5])]),
  (false, [(.aload_n 0, []), (.getfield 20, [17, 5, 1]), (.aload_n 0, []), (.getfield 71, [17, 30, 1]), (.iload 5, []), (.iaload, []), (.iaload, []), (.iconst 1, []), (.if_icmp .ne 17, [4]), (.aload_n 0, []), (.aload_n 0, []), (.getfield 71, [17, 30, 1]), (.iload 5, []), (.iaload, []), (.invokevirtual 596, [1, 17, 55, 2, 1, 0, 1]), (.goto 4, [5])]),
  (false, [(.iconst (-1), []), (.nop, [5])]),
  (true, [(.istore 4, []), (.iload 4, []), (.iconst (-1), []), (.if_icmp .ne 25, [8]), (.aload_n 0, []), (.iconst 4, []), (.iload 5, []), (.iconst (-1), []), (.if_icmp .ne 12, [6]), (.aload_n 0, []), (.getfield 95, [17, 40, 1]), (.iload_n 1, []), (.iaload, []), (.goto 4, [7])]),
  (false, [(.iload_n 3, []), (.nop, [7])]),
  (false, [(.invokevirtual 599, [1, 17, 58, 3, 0, 0, 1]), (.return_, [])]),
  (true, [(.aload_n 0, []), (.iload 4, []), (.iload_n 3, []), (.invokevirtual 612, [1, 17, 56, 3, 1, 0, 1]), (.istore 5, []), (.aload_n 0, []), (.getfield 110, [17, 45, 1]), (.iload_n 1, []), (.iload 4, []), (.iastore, []), (.aload_n 0, []), (.getfield 113, [17, 46, 1]), (.iload_n 1, []), (.iload 5, []), (.iastore, []), (.iload 5, []), (.iconst (-1), []), (.if_icmp .ne 10, [9]), (.aload_n 0, []), (.iconst 4, []), (.iload_n 3, []), (.invokevirtual 599, [1, 17, 58, 3, 0, 0, 1]), (.return_, [])]),
  (false, [(.aload_n 0, []), (.iload 4, []), (.iload 5, []), (.invokevirtual 615, [1, 17, 63, 3, 1, 0, 1]), (.aload_n 0, []), (.getfield 104, [17, 43, 1]), (.iload_n 1, []), (.iaload, []), (.ifCond .le 7, [10]), (.iconst 1, []), (.goto 4, [11])]),
  (false, [(.iconst 0, []), (.nop, [11])]),
  (true, [(.if_icmp .ne 20, [12]), (.aload_n 0, []), (.iload 4, []), (.iload 5, []), (.invokevirtual 618, [1, 17, 64, 3, 1, 0, 1]), (.aload_n 0, []), (.getfield 101, [17, 42, 1]), (.iload_n 1, []), (.iaload, []), (.if_icmp .eq 9, [13]), (.nop, [12])]),
  (false, [(.aload_n 0, []), (.iconst 5, []), (.iload_n 3, []), (.invokevirtual 599, [1, 17, 58, 3, 0, 0, 1]), (.nop, [13])]),
  (true, [(.aload_n 0, []), (.getfield 104, [17, 43, 1]), (.iload_n 1, []), (.iaload, []), (.iconst 2, []), (.if_icmp .ne 20, [14]), (.aload_n 0, []), (.getfield 41, [17, 19, 1]), (.iload_n 2, []), (.iaload, []), (.iconst 2, []), (.if_icmp .ne 10, [14]), (.aload_n 0, []), (.bipush 6, []), (.iload_n 3, []), (.invokevirtual 599, [1, 17, 58, 3, 0, 0, 1]), (.nop, [14])]),
  (false, [(.return_, [])])]
/-- TowerComputerModel.checkMain()V -/
def m_17_66 : List am_B := [
  (false, [(.aload_n 0, []), (.iconst (-1), []), (.putfield 621, [17, 72, 0]), (.iconst 0, []), (.istore_n 1, []), (.nop, [1])]),
  (true, [(.iload_n 1, []), (.aload_n 0, []), (.getfield 444, [17, 17, 0]), (.if_icmp .ge 98, [5]), (.aload_n 0, []), (.getfield 41, [17, 19, 1]), (.iload_n 1, []), (.iaload, []), (.iconst 2, []), (.if_icmp .ne 63, [2]), (.aload_n 0, []), (.getfield 50, [17, 22, 1]), (.iload_n 1, []), (.iaload, []), (.ifCond .ne 54, [2]), (.aload_n 0, []), (.aload_n 0, []), (.getfield 44, [17, 20, 1]), (.iload_n 1, []), (.iaload, []), (.bipush 109, []), (.bipush 97, []), (.bipush 105, []), (.bipush 110, []), (.invokevirtual 624, [1, 17, 67, 6, 1, 0, 1]), (.ifCond .eq 33, [2]), (.aload_n 0, []), (.aload_n 0, []), (.getfield 32, [17, 13, 1]), (.aload_n 0, []), (.getfield 38, [17, 18, 1]), (.iload_n 1, []), (.iaload, []), (.iaload, []), (.bipush 77, []), (.bipush 97, []), (.bipush 105, []), (.bipush 110, []), (.invokevirtual 624, [1, 17, 67, 6, 1, 0, 1]), (.ifCond .eq 7, [2]), (.iconst 1, []), (.goto 4, [3])]),
  (false, [(.iconst 0, []), (.nop, [3])]),
  (true, [(.istore_n 2, []), (.iload_n 2, []), (.ifCond .eq 16, [4]), (.aload_n 0, []), (.getfield 621, [17, 72, 0]), (.iconst (-1), []), (.if_icmp .ne 8, [4]), (.aload_n 0, []), (.iload_n 1, []), (.putfield 621, [17, 72, 0]), (.nop, [4])]),
  (false, [(.iinc 1 1, []), (.goto (-100), [1])]),
  (false, [(.return_, [])])]
/-- TowerComputerModel.isText(IIIII)Z -/
def m_17_67 : List am_B := [
  (false, [(.aload_n 0, []), (.getfield 23, [17, 6, 1]), (.iload_n 1, []), (.iaload, []), (.istore 6, []), (.aload_n 0, []), (.getfield 26, [17, 7, 1]), (.iload_n 1, []), (.iaload, []), (.iconst 4, []), (.if_icmp .ne 59, [1]), (.aload_n 0, []), (.getfield 13, [17, 2, 1]), (.iload 6, []), (.iaload, []), (.iload_n 2, []), (.if_icmp .ne 48, [1]), (.aload_n 0, []), (.getfield 13, [17, 2, 1]), (.iload 6, []), (.iconst 1, []), (.iadd, []), (.iaload, []), (.iload_n 3, []), (.if_icmp .ne 35, [1]), (.aload_n 0, []), (.getfield 13, [17, 2, 1]), (.iload 6, []), (.iconst 2, []), (.iadd, []), (.iaload, []), (.iload 4, []), (.if_icmp .ne 21, [1]), (.aload_n 0, []), (.getfield 13, [17, 2, 1]), (.iload 6, []), (.iconst 3, []), (.iadd, []), (.iaload, []), (.iload 5, []), (.if_icmp .ne 7, [1]), (.iconst 1, []), (.goto 4, [2])]),
  (false, [(.iconst 0, []), (.nop, [2])]),
  (false, [(.ireturn, [1])])]
/-- TowerComputerModel.load(I)I -/
def m_17_68 : List am_B := [
  (false, [(.aload_n 0, []), (.iload_n 1, []), (.invokevirtual 628, [1, 17, 3, 2, 1, 0, 1]), (.ifCond .ne 5, [1]), (.iconst (-1), []), (.ireturn, [])]),
  (false, [(.aload_n 0, []), (.iconst 0, []), (.putfield 631, [17, 71, 3]), (.aload_n 0, []), (.iconst 0, []), (.putfield 634, [17, 76, 0]), (.aload_n 0, []), (.sipush 1000, []), (.iconst 0, []), (.invokevirtual 637, [1, 17, 11, 3, 0, 0, 1]), (.aload_n 0, []), (.invokevirtual 641, [1, 17, 51, 1, 0, 0, 1]), (.aload_n 0, []), (.aload_n 0, []), (.getfield 422, [17, 12, 0]), (.putfield 16, [17, 4, 0]), (.aload_n 0, []), (.getfield 419, [17, 11, 0]), (.ifCond .le 8, [2]), (.aload_n 0, []), (.getfield 419, [17, 11, 0]), (.ireturn, [])]),
  (false, [(.aload_n 0, []), (.iconst 0, []), (.putfield 590, [17, 69, 0]), (.aload_n 0, []), (.invokevirtual 644, [1, 17, 60, 1, 0, 0, 1]), (.aload_n 0, []), (.invokevirtual 647, [1, 17, 62, 1, 0, 0, 1]), (.iconst 0, []), (.istore_n 2, []), (.nop, [3])]),
  (true, [(.iload_n 2, []), (.aload_n 0, []), (.getfield 546, [17, 39, 0]), (.if_icmp .ge 14, [4]), (.aload_n 0, []), (.iload_n 2, []), (.invokevirtual 650, [1, 17, 65, 2, 0, 0, 1]), (.iinc 2 1, []), (.goto (-16), [3])]),
  (false, [(.aload_n 0, []), (.invokevirtual 653, [1, 17, 66, 1, 0, 0, 1]), (.aload_n 0, []), (.getfield 590, [17, 69, 0]), (.ifCond .ne 25, [5]), (.aload_n 0, []), (.getfield 621, [17, 72, 0]), (.iconst (-1), []), (.if_icmp .ne 17, [5]), (.aload_n 0, []), (.bipush 7, []), (.putfield 590, [17, 69, 0]), (.aload_n 0, []), (.aload_n 0, []), (.getfield 364, [17, 3, 0]), (.putfield 593, [17, 70, 0]), (.nop, [5])]),
  (true, [(.aload_n 0, []), (.aload_n 0, []), (.getfield 593, [17, 70, 0]), (.putfield 16, [17, 4, 0]), (.aload_n 0, []), (.getfield 590, [17, 69, 0]), (.ifCond .le 8, [6]), (.aload_n 0, []), (.getfield 590, [17, 69, 0]), (.ireturn, [])]),
  (false, [(.aload_n 0, []), (.iconst (-1), []), (.putfield 16, [17, 4, 0]), (.aload_n 0, []), (.iconst 1, []), (.putfield 631, [17, 71, 3]), (.aload_n 0, []), (.aload_n 0, []), (.getfield 23, [17, 6, 1]), (.iconst 0, []), (.iaload, []), (.putfield 656, [17, 74, 0]), (.iconst 0, []), (.istore_n 2, []), (.nop, [7])]),
  (true, [(.iload_n 2, []), (.aload_n 0, []), (.getfield 364, [17, 3, 0]), (.if_icmp .ge 21, [8]), (.aload_n 0, []), (.getfield 162, [17, 75, 1]), (.iload_n 2, []), (.aload_n 0, []), (.getfield 13, [17, 2, 1]), (.iload_n 2, []), (.iaload, []), (.iastore, []), (.iinc 2 1, []), (.goto (-23), [7])]),
  (false, [(.iconst 0, []), (.istore_n 2, []), (.nop, [9])]),
  (true, [(.iload_n 2, []), (.aload_n 0, []), (.getfield 441, [17, 33, 0]), (.if_icmp .ge 26, [10]), (.aload_n 0, []), (.getfield 159, [17, 73, 1]), (.iload_n 2, []), (.aload_n 0, []), (.getfield 23, [17, 6, 1]), (.aload_n 0, []), (.getfield 89, [17, 37, 1]), (.iload_n 2, []), (.iaload, []), (.iaload, []), (.iastore, []), (.iinc 2 1, []), (.goto (-28), [9])]),
  (false, [(.iconst 0, []), (.istore_n 2, []), (.nop, [11])]),
  (true, [(.iload_n 2, []), (.aload_n 0, []), (.getfield 441, [17, 33, 0]), (.if_icmp .ge 47, [14]), (.aload_n 0, []), (.getfield 86, [17, 36, 1]), (.iload_n 2, []), (.aload_n 0, []), (.getfield 80, [17, 34, 1]), (.iload_n 2, []), (.iaload, []), (.iconst 1, []), (.if_icmp .ne 19, [12]), (.aload_n 0, []), (.getfield 26, [17, 7, 1]), (.aload_n 0, []), (.getfield 89, [17, 37, 1]), (.iload_n 2, []), (.iaload, []), (.iaload, []), (.iconst 2, []), (.isub, []), (.goto 9, [13])]),
  (false, [(.aload_n 0, []), (.getfield 86, [17, 36, 1]), (.iload_n 2, []), (.iaload, []), (.nop, [13])]),
  (false, [(.iastore, []), (.iinc 2 1, []), (.goto (-49), [11])]),
  (false, [(.aload_n 0, []), (.invokevirtual 659, [1, 17, 74, 1, 0, 0, 1]), (.iconst 0, []), (.ireturn, [])])]
/-- TowerComputerModel.com(III)V -/
def m_17_69 : List am_B := [
  (false, [(.aload_n 0, []), (.getfield 165, [17, 77, 1]), (.aload_n 0, []), (.getfield 634, [17, 76, 0]), (.iload_n 1, []), (.iastore, []), (.aload_n 0, []), (.getfield 168, [17, 78, 1]), (.aload_n 0, []), (.getfield 634, [17, 76, 0]), (.iload_n 2, []), (.iastore, []), (.aload_n 0, []), (.getfield 171, [17, 79, 1]), (.aload_n 0, []), (.getfield 634, [17, 76, 0]), (.iload_n 3, []), (.iastore, []), (.aload_n 0, []), (.aload_n 0, []), (.getfield 634, [17, 76, 0]), (.iconst 1, []), (.iadd, []), (.putfield 634, [17, 76, 0]), (.return_, [])])]
/-- TowerComputerModel.comVariable(II)V -/
def m_17_70 : List am_B := [
  (false, [(.aload_n 0, []), (.getfield 65, [17, 28, 1]), (.iload_n 2, []), (.iaload, []), (.ifCond .ne 7, [1]), (.iconst 3, []), (.goto 32, [4])]),
  (false, [(.aload_n 0, []), (.getfield 65, [17, 28, 1]), (.iload_n 2, []), (.iaload, []), (.iconst 1, []), (.if_icmp .ne 7, [2]), (.iconst 4, []), (.goto 18, [4])]),
  (false, [(.aload_n 0, []), (.getfield 65, [17, 28, 1]), (.iload_n 2, []), (.iaload, []), (.iconst 2, []), (.if_icmp .ne 7, [3]), (.iconst 1, []), (.goto 4, [4])]),
  (false, [(.iconst 2, []), (.nop, [4])]),
  (true, [(.istore_n 3, []), (.aload_n 0, []), (.getfield 65, [17, 28, 1]), (.iload_n 2, []), (.iaload, []), (.iconst 2, []), (.if_icmp .ne 22, [5]), (.aload_n 0, []), (.getfield 41, [17, 19, 1]), (.aload_n 0, []), (.getfield 62, [17, 27, 1]), (.iload_n 2, []), (.iaload, []), (.iaload, []), (.iconst 3, []), (.if_icmp .ne 7, [5]), (.iconst 1, []), (.goto 4, [6])]),
  (true, [(.iconst 0, []), (.nop, [6])]),
  (false, [(.istore 4, []), (.aload_n 0, []), (.iload_n 1, []), (.iload_n 3, []), (.aload_n 0, []), (.getfield 74, [17, 31, 1]), (.iload_n 2, []), (.iaload, []), (.iload 4, []), (.iadd, []), (.invokevirtual 662, [1, 17, 69, 4, 0, 0, 1]), (.return_, [])])]
/-- TowerComputerModel.numberOf(II)I -/
def m_17_71 : List am_B := [
  (false, [(.bipush 100, []), (.iload_n 1, []), (.imul, []), (.iload_n 1, []), (.bipush 8, []), (.if_icmp .ge 14, [1]), (.iload_n 2, []), (.aload_n 0, []), (.getfield 140, [17, 63, 1]), (.iload_n 1, []), (.iaload, []), (.isub, []), (.goto 9, [2])]),
  (false, [(.aload_n 0, []), (.getfield 156, [17, 68, 1]), (.iload_n 2, []), (.iaload, []), (.nop, [2])]),
  (false, [(.iadd, []), (.ireturn, [])])]
/-- TowerComputerModel.comSign(I)V -/
def m_17_72 : List am_B := [
  (false, [(.iload_n 1, []), (.lookupswitch 144 #[(38, 109), (42, 91), (43, 75), (45, 83), (47, 100), (60, 126), (62, 135), (124, 117)], [9, 5, 3, 1, 2, 4, 7, 8, 6])]),
  (false, [(.aload_n 0, []), (.iconst 2, []), (.iconst 0, []), (.iconst 0, []), (.invokevirtual 662, [1, 17, 69, 4, 0, 0, 1]), (.return_, [])]),
  (false, [(.aload_n 0, []), (.iconst 3, []), (.iconst 0, []), (.iconst 0, []), (.invokevirtual 662, [1, 17, 69, 4, 0, 0, 1]), (.return_, [])]),
  (false, [(.aload_n 0, []), (.bipush 15, []), (.iconst 3, []), (.iconst 2, []), (.invokevirtual 662, [1, 17, 69, 4, 0, 0, 1]), (.return_, [])]),
  (false, [(.aload_n 0, []), (.bipush 15, []), (.iconst 4, []), (.iconst 2, []), (.invokevirtual 662, [1, 17, 69, 4, 0, 0, 1]), (.return_, [])]),
  (false, [(.aload_n 0, []), (.iconst 5, []), (.iconst 0, []), (.iconst 0, []), (.invokevirtual 662, [1, 17, 69, 4, 0, 0, 1]), (.return_, [])]),
  (false, [(.aload_n 0, []), (.bipush 6, []), (.iconst 0, []), (.iconst 0, []), (.invokevirtual 662, [1, 17, 69, 4, 0, 0, 1]), (.return_, [])]),
  (false, [(.aload_n 0, []), (.bipush 9, []), (.iconst 0, []), (.iconst 0, []), (.invokevirtual 662, [1, 17, 69, 4, 0, 0, 1]), (.return_, [])]),
  (false, [(.aload_n 0, []), (.bipush 10, []), (.iconst 0, []), (.iconst 0, []), (.invokevirtual 662, [1, 17, 69, 4, 0, 0, 1]), (.return_, [])]),
  (false, [(.aload_n 0, []), (.bipush 8, []), (.iconst 0, []), (.iconst 0, []), (.invokevirtual 662, [1, 17, 69, 4, 0, 0, 1]), (.return_, [])])]
/-- TowerComputerModel.comItem(I)V -/
def m_17_73 : List am_B := [
  (false, [(.aload_n 0, []), (.getfield 83, [17, 35, 1]), (.iload_n 1, []), (.iaload, []), (.istore_n 2, []), (.aload_n 0, []), (.getfield 80, [17, 34, 1]), (.iload_n 1, []), (.iaload, []), (.tableswitch 454 0 20 #[99, 127, 454, 199, 208, 215, 238, 244, 252, 261, 301, 454, 454, 345, 352, 384, 413, 454, 427, 436, 445], [27, 1, 5, 27, 8, 9, 10, 11, 12, 13, 14, 17, 27, 27, 20, 21, 22, 23, 27, 24, 25, 26])]),
  (false, [(.aload_n 0, []), (.iconst 0, []), (.iconst 0, []), (.iload_n 2, []), (.ifCond .ge 7, [2]), (.iconst 0, []), (.goto 4, [3])]),
  (false, [(.iload_n 2, []), (.nop, [3])]),
  (false, [(.invokevirtual 662, [1, 17, 69, 4, 0, 0, 1]), (.iload_n 2, []), (.ifCond .ge 11, [4]), (.aload_n 0, []), (.bipush 7, []), (.iconst 0, []), (.iconst 0, []), (.invokevirtual 662, [1, 17, 69, 4, 0, 0, 1]), (.nop, [4])]),
  (false, [(.return_, [])]),
  (false, [(.aload_n 0, []), (.iconst 0, []), (.iconst 0, []), (.aload_n 0, []), (.getfield 86, [17, 36, 1]), (.iload_n 1, []), (.iaload, []), (.invokevirtual 662, [1, 17, 69, 4, 0, 0, 1]), (.aload_n 0, []), (.bipush 15, []), (.sipush 300, []), (.iconst 1, []), (.invokevirtual 662, [1, 17, 69, 4, 0, 0, 1]), (.iconst 0, []), (.istore_n 3, []), (.nop, [6])]),
  (true, [(.iload_n 3, []), (.aload_n 0, []), (.getfield 86, [17, 36, 1]), (.iload_n 1, []), (.iaload, []), (.if_icmp .ge 40, [7]), (.aload_n 0, []), (.iconst 0, []), (.iconst 0, []), (.aload_n 0, []), (.getfield 162, [17, 75, 1]), (.aload_n 0, []), (.getfield 159, [17, 73, 1]), (.iload_n 1, []), (.iaload, []), (.iconst 1, []), (.iadd, []), (.iload_n 3, []), (.iadd, []), (.iaload, []), (.invokevirtual 662, [1, 17, 69, 4, 0, 0, 1]), (.aload_n 0, []), (.bipush 15, []), (.sipush 304, []), (.iconst 2, []), (.invokevirtual 662, [1, 17, 69, 4, 0, 0, 1]), (.iinc 3 1, []), (.goto (-44), [6])]),
  (false, [(.return_, [])]),
  (false, [(.aload_n 0, []), (.iconst 0, []), (.bipush 6, []), (.iconst 0, []), (.invokevirtual 662, [1, 17, 69, 4, 0, 0, 1]), (.return_, [])]),
  (false, [(.aload_n 0, []), (.iconst 0, []), (.iload_n 2, []), (.invokevirtual 665, [1, 17, 70, 3, 0, 0, 1]), (.return_, [])]),
  (false, [(.aload_n 0, []), (.iconst 2, []), (.iconst 0, []), (.iconst 0, []), (.invokevirtual 662, [1, 17, 69, 4, 0, 0, 1]), (.aload_n 0, []), (.iconst 1, []), (.bipush 6, []), (.iconst 1, []), (.invokevirtual 662, [1, 17, 69, 4, 0, 0, 1]), (.aload_n 0, []), (.iconst 0, []), (.iconst 5, []), (.iconst 0, []), (.invokevirtual 662, [1, 17, 69, 4, 0, 0, 1]), (.return_, [])]),
  (false, [(.aload_n 0, []), (.iload_n 2, []), (.invokevirtual 668, [1, 17, 72, 2, 0, 0, 1]), (.return_, [])]),
  (false, [(.aload_n 0, []), (.iconst 4, []), (.iconst 0, []), (.iconst 0, []), (.invokevirtual 662, [1, 17, 69, 4, 0, 0, 1]), (.return_, [])]),
  (false, [(.aload_n 0, []), (.bipush 7, []), (.iconst 0, []), (.iconst 0, []), (.invokevirtual 662, [1, 17, 69, 4, 0, 0, 1]), (.return_, [])]),
  (false, [(.aload_n 0, []), (.getfield 104, [17, 43, 1]), (.iload_n 2, []), (.iaload, []), (.iconst 1, []), (.if_icmp .ne 14, [15]), (.aload_n 0, []), (.iconst 0, []), (.aload_n 0, []), (.getfield 107, [17, 44, 1]), (.iload_n 2, []), (.iaload, []), (.invokevirtual 665, [1, 17, 70, 3, 0, 0, 1]), (.nop, [15])]),
  (true, [(.aload_n 0, []), (.getfield 104, [17, 43, 1]), (.iload_n 2, []), (.iaload, []), (.iconst 2, []), (.if_icmp .ne 11, [16]), (.aload_n 0, []), (.iconst 0, []), (.bipush 6, []), (.iconst 0, []), (.invokevirtual 662, [1, 17, 69, 4, 0, 0, 1]), (.nop, [16])]),
  (false, [(.return_, [])]),
  (false, [(.aload_n 0, []), (.bipush 15, []), (.aload_n 0, []), (.aload_n 0, []), (.getfield 110, [17, 45, 1]), (.iload_n 2, []), (.iaload, []), (.aload_n 0, []), (.getfield 113, [17, 46, 1]), (.iload_n 2, []), (.iaload, []), (.invokevirtual 671, [1, 17, 71, 3, 1, 0, 1]), (.aload_n 0, []), (.getfield 101, [17, 42, 1]), (.iload_n 2, []), (.iaload, []), (.aload_n 0, []), (.getfield 104, [17, 43, 1]), (.iload_n 2, []), (.iaload, []), (.ifCond .le 7, [18]), (.iconst 1, []), (.goto 4, [19])]),
  (false, [(.iconst 0, []), (.nop, [19])]),
  (false, [(.iadd, []), (.invokevirtual 662, [1, 17, 69, 4, 0, 0, 1]), (.return_, [])]),
  (false, [(.aload_n 0, []), (.iconst 1, []), (.iload_n 2, []), (.invokevirtual 665, [1, 17, 70, 3, 0, 0, 1]), (.return_, [])]),
  (false, [(.aload_n 0, []), (.iconst 1, []), (.bipush 7, []), (.iconst 0, []), (.invokevirtual 662, [1, 17, 69, 4, 0, 0, 1]), (.aload_n 0, []), (.iconst 1, []), (.bipush 6, []), (.iconst 1, []), (.invokevirtual 662, [1, 17, 69, 4, 0, 0, 1]), (.aload_n 0, []), (.iconst 0, []), (.bipush 7, []), (.iconst 0, []), (.invokevirtual 662, [1, 17, 69, 4, 0, 0, 1]), (.aload_n 0, []), (.iconst 1, []), (.iconst 5, []), (.iconst 0, []), (.invokevirtual 662, [1, 17, 69, 4, 0, 0, 1]), (.return_, [])]),
  (false, [(.aload_n 0, []), (.iconst 0, []), (.iconst 0, []), (.iconst 0, []), (.invokevirtual 662, [1, 17, 69, 4, 0, 0, 1]), (.aload_n 0, []), (.bipush 8, []), (.iconst 0, []), (.iconst 0, []), (.invokevirtual 662, [1, 17, 69, 4, 0, 0, 1]), (.aload_n 0, []), (.bipush 13, []), (.aload_n 0, []), (.getfield 86, [17, 36, 1]), (.iload_n 1, []), (.iaload, []), (.iconst 0, []), (.invokevirtual 662, [1, 17, 69, 4, 0, 0, 1]), (.return_, [])]),
  (false, [(.aload_n 0, []), (.bipush 12, []), (.aload_n 0, []), (.getfield 86, [17, 36, 1]), (.iload_n 1, []), (.iaload, []), (.iconst 0, []), (.invokevirtual 662, [1, 17, 69, 4, 0, 0, 1]), (.return_, [])]),
  (false, [(.aload_n 0, []), (.bipush 16, []), (.iconst 0, []), (.iconst 0, []), (.invokevirtual 662, [1, 17, 69, 4, 0, 0, 1]), (.return_, [])]),
  (false, [(.aload_n 0, []), (.iconst 1, []), (.bipush 7, []), (.iconst 0, []), (.invokevirtual 662, [1, 17, 69, 4, 0, 0, 1]), (.return_, [])]),
  (false, [(.aload_n 0, []), (.bipush 11, []), (.iload_n 2, []), (.iconst 0, []), (.invokevirtual 662, [1, 17, 69, 4, 0, 0, 1]), (.return_, [])]),
  (false, [(.return_, [])])]
/-- TowerComputerModel.command()V -/
def m_17_74 : List am_B := [
  (false, [(.aload_n 0, []), (.iconst 0, []), (.putfield 634, [17, 76, 0]), (.iconst 0, []), (.istore_n 1, []), (.iconst 0, []), (.istore_n 2, []), (.nop, [1])]),
  (true, [(.iload_n 2, []), (.aload_n 0, []), (.getfield 444, [17, 17, 0]), (.if_icmp .ge 166, [10]), (.aload_n 0, []), (.bipush 14, []), (.aload_n 0, []), (.bipush 8, []), (.aload_n 0, []), (.getfield 38, [17, 18, 1]), (.iload_n 2, []), (.iaload, []), (.iadd, []), (.iload_n 2, []), (.invokevirtual 671, [1, 17, 71, 3, 1, 0, 1]), (.aload_n 0, []), (.getfield 53, [17, 23, 1]), (.iload_n 2, []), (.iaload, []), (.invokevirtual 662, [1, 17, 69, 4, 0, 0, 1]), (.aload_n 0, []), (.getfield 41, [17, 19, 1]), (.iload_n 2, []), (.iaload, []), (.iconst 3, []), (.if_icmp .ne 18, [2]), (.aload_n 0, []), (.iconst 0, []), (.iconst 1, []), (.iconst 0, []), (.invokevirtual 662, [1, 17, 69, 4, 0, 0, 1]), (.aload_n 0, []), (.iconst 1, []), (.bipush 6, []), (.iconst 0, []), (.invokevirtual 662, [1, 17, 69, 4, 0, 0, 1]), (.nop, [2])]),
  (true, [(.aload_n 0, []), (.getfield 41, [17, 19, 1]), (.iload_n 2, []), (.iaload, []), (.iconst 1, []), (.if_icmp .ne 56, [5]), (.aload_n 0, []), (.iconst 0, []), (.iconst 0, []), (.aload_n 0, []), (.getfield 35, [17, 15, 1]), (.aload_n 0, []), (.getfield 38, [17, 18, 1]), (.iload_n 2, []), (.iaload, []), (.iaload, []), (.iconst 1, []), (.if_icmp .ge 7, [3]), (.iconst 1, []), (.goto 14, [4])]),
  (false, [(.aload_n 0, []), (.getfield 35, [17, 15, 1]), (.aload_n 0, []), (.getfield 38, [17, 18, 1]), (.iload_n 2, []), (.iaload, []), (.iaload, []), (.nop, [4])]),
  (false, [(.invokevirtual 662, [1, 17, 69, 4, 0, 0, 1]), (.aload_n 0, []), (.bipush 15, []), (.bipush 102, []), (.iconst 1, []), (.invokevirtual 662, [1, 17, 69, 4, 0, 0, 1]), (.aload_n 0, []), (.iconst 1, []), (.bipush 6, []), (.iconst 0, []), (.invokevirtual 662, [1, 17, 69, 4, 0, 0, 1]), (.nop, [5])]),
  (true, [(.iload_n 2, []), (.iconst 1, []), (.iadd, []), (.aload_n 0, []), (.getfield 444, [17, 17, 0]), (.if_icmp .ge 14, [6]), (.aload_n 0, []), (.getfield 56, [17, 24, 1]), (.iload_n 2, []), (.iconst 1, []), (.iadd, []), (.iaload, []), (.goto 7, [7])]),
  (false, [(.aload_n 0, []), (.getfield 441, [17, 33, 0]), (.nop, [7])]),
  (false, [(.istore_n 3, []), (.nop, [8])]),
  (true, [(.iload_n 1, []), (.iload_n 3, []), (.if_icmp .ge 15, [9]), (.aload_n 0, []), (.iload_n 1, []), (.invokevirtual 674, [1, 17, 73, 2, 0, 0, 1]), (.iload_n 1, []), (.iconst 1, []), (.iadd, []), (.istore_n 1, []), (.goto (-14), [8])]),
  (false, [(.iinc 2 1, []), (.goto (-168), [1])]),
  (false, [(.return_, [])])]
/-- TowerComputerModel.command(II)I -/
def m_17_75 : List am_B := [
  (false, [(.aload_n 0, []), (.getfield 631, [17, 71, 3]), (.ifCond .eq 24, [1]), (.iload_n 1, []), (.ifCond .lt 20, [1]), (.iload_n 1, []), (.aload_n 0, []), (.getfield 634, [17, 76, 0]), (.if_icmp .ge 12, [1]), (.iload_n 2, []), (.ifCond .lt 8, [1]), (.iload_n 2, []), (.iconst 2, []), (.if_icmp .le 5, [2]), (.nop, [1])]),
  (false, [(.iconst (-1), []), (.ireturn, [])]),
  (false, [(.iload_n 2, []), (.ifCond .ne 12, [3]), (.aload_n 0, []), (.getfield 165, [17, 77, 1]), (.iload_n 1, []), (.iaload, []), (.goto 23, [5])]),
  (false, [(.iload_n 2, []), (.iconst 1, []), (.if_icmp .ne 12, [4]), (.aload_n 0, []), (.getfield 168, [17, 78, 1]), (.iload_n 1, []), (.iaload, []), (.goto 9, [5])]),
  (false, [(.aload_n 0, []), (.getfield 171, [17, 79, 1]), (.iload_n 1, []), (.iaload, []), (.nop, [5])]),
  (false, [(.ireturn, [])])]
/-- TowerComputerModel.word16(I)I -/
def m_17_76 : List am_B := [
  (false, [(.iload_n 0, []), (.i2s, []), (.ireturn, [])])]
/-- TowerComputerModel.err(I)V -/
def m_17_77 : List am_B := [
  (false, [(.aload_n 0, []), (.getfield 677, [17, 99, 0]), (.iconst (-1), []), (.if_icmp .eq 4, [1]), (.return_, [])]),
  (false, [(.aload_n 0, []), (.iconst 3, []), (.putfield 677, [17, 99, 0]), (.aload_n 0, []), (.iload_n 1, []), (.putfield 680, [17, 100, 0]), (.return_, [])])]
/-- TowerComputerModel.isPlace(I)Z -/
def m_17_78 : List am_B := [
  (false, [(.iload_n 0, []), (.sipush 2048, []), (.if_icmp .lt 10, [1]), (.iload_n 0, []), (.sipush 14335, []), (.if_icmp .le 17, [2]), (.nop, [1])]),
  (true, [(.iload_n 0, []), (.sipush 16384, []), (.if_icmp .lt 14, [3]), (.iload_n 0, []), (.sipush 16511, []), (.if_icmp .gt 7, [3]), (.nop, [2])]),
  (false, [(.iconst 1, []), (.goto 4, [4])]),
  (false, [(.iconst 0, []), (.nop, [4])]),
  (false, [(.ireturn, [1])])]
/-- TowerComputerModel.read(I)I -/
def m_17_79 : List am_B := [
  (false, [(.iload_n 1, []), (.invokestatic 683, [0, 17, 76, 1, 1, 0, 1]), (.istore_n 2, []), (.iload_n 2, []), (.invokestatic 686, [0, 17, 78, 1, 1, 0, 1]), (.ifCond .ne 9, [1]), (.aload_n 0, []), (.bipush 20, []), (.invokevirtual 689, [1, 17, 77, 2, 0, 0, 1]), (.nop, [1])]),
  (false, [(.iload_n 2, []), (.invokestatic 686, [0, 17, 78, 1, 1, 0, 1]), (.ifCond .eq 12, [2]), (.aload_n 0, []), (.getfield 174, [17, 80, 1]), (.iload_n 2, []), (.iaload, []), (.goto 4, [3])]),
  (false, [(.iconst 0, []), (.nop, [3])]),
  (false, [(.ireturn, [])])]
/-- TowerComputerModel.write(II)V -/
def m_17_80 : List am_B := [
  (false, [(.iload_n 1, []), (.invokestatic 683, [0, 17, 76, 1, 1, 0, 1]), (.istore_n 3, []), (.iload_n 3, []), (.invokestatic 686, [0, 17, 78, 1, 1, 0, 1]), (.ifCond .ne 9, [1]), (.aload_n 0, []), (.bipush 20, []), (.invokevirtual 689, [1, 17, 77, 2, 0, 0, 1]), (.nop, [1])]),
  (true, [(.aload_n 0, []), (.getfield 677, [17, 99, 0]), (.iconst (-1), []), (.if_icmp .ne 13, [2]), (.aload_n 0, []), (.getfield 174, [17, 80, 1]), (.iload_n 3, []), (.iload_n 2, []), (.invokestatic 683, [0, 17, 76, 1, 1, 0, 1]), (.iastore, []), (.nop, [2])]),
  (false, [(.return_, [])])]
/-- TowerComputerModel.put(I)V -/
def m_17_81 : List am_B := [
  (false, [(.aload_n 0, []), (.getfield 189, [17, 86, 1]), (.aload_n 0, []), (.getfield 692, [17, 87, 0]), (.iload_n 1, []), (.invokestatic 683, [0, 17, 76, 1, 1, 0, 1]), (.iastore, []), (.aload_n 0, []), (.aload_n 0, []), (.getfield 692, [17, 87, 0]), (.iconst 1, []), (.iadd, []), (.putfield 692, [17, 87, 0]), (.return_, [])])]
/-- TowerComputerModel.pop()I -/
def m_17_82 : List am_B := [
  (false, [(.aload_n 0, []), (.aload_n 0, []), (.getfield 692, [17, 87, 0]), (.iconst 1, []), (.isub, []), (.putfield 692, [17, 87, 0]), (.aload_n 0, []), (.getfield 189, [17, 86, 1]), (.aload_n 0, []), (.getfield 692, [17, 87, 0]), (.iaload, []), (.ireturn, [])])]
/-- TowerComputerModel.freeAt(I)I -/
def m_17_83 : List am_B := [
  (false, [(.sipush 2048, []), (.istore_n 2, []), (.iconst 1, []), (.istore_n 3, []), (.nop, [1])]),
  (true, [(.iload_n 3, []), (.ifCond .eq 79, [6]), (.iconst 0, []), (.istore_n 3, []), (.iconst 0, []), (.istore 4, []), (.nop, [2])]),
  (true, [(.iload 4, []), (.aload_n 0, []), (.getfield 695, [17, 81, 0]), (.if_icmp .ge 62, [5]), (.aload_n 0, []), (.getfield 177, [17, 82, 1]), (.iload 4, []), (.iaload, []), (.iload_n 2, []), (.iload_n 1, []), (.iadd, []), (.if_icmp .ge 43, [4]), (.aload_n 0, []), (.getfield 177, [17, 82, 1]), (.iload 4, []), (.iaload, []), (.aload_n 0, []), (.getfield 180, [17, 83, 1]), (.iload 4, []), (.iaload, []), (.iadd, []), (.iload_n 2, []), (.if_icmp .gt 6, [3]), (.goto 21, [4])]),
  (false, [(.aload_n 0, []), (.getfield 177, [17, 82, 1]), (.iload 4, []), (.iaload, []), (.aload_n 0, []), (.getfield 180, [17, 83, 1]), (.iload 4, []), (.iaload, []), (.iadd, []), (.istore_n 2, []), (.iconst 1, []), (.istore_n 3, []), (.nop, [4])]),
  (false, [(.iinc 4 1, []), (.goto (-65), [2])]),
  (false, [(.goto (-77), [1])]),
  (false, [(.iload_n 2, []), (.iload_n 1, []), (.iadd, []), (.sipush 14336, []), (.if_icmp .gt 7, [7]), (.iload_n 2, []), (.goto 4, [8])]),
  (false, [(.iconst (-1), []), (.nop, [8])]),
  (false, [(.ireturn, [])])]
/-- TowerComputerModel.make(I)I -/
def m_17_84 : List am_B := [
  (false, [(.iload_n 1, []), (.iconst 1, []), (.if_icmp .ge 8, [1]), (.aload_n 0, []), (.iconst 5, []), (.invokevirtual 689, [1, 17, 77, 2, 0, 0, 1]), (.nop, [1])]),
  (false, [(.aload_n 0, []), (.getfield 677, [17, 99, 0]), (.iconst (-1), []), (.if_icmp .ne 11, [2]), (.aload_n 0, []), (.iload_n 1, []), (.invokevirtual 698, [1, 17, 83, 2, 1, 0, 1]), (.goto 4, [3])]),
  (false, [(.iconst 0, []), (.nop, [3])]),
  (true, [(.istore_n 2, []), (.iload_n 2, []), (.iconst (-1), []), (.if_icmp .eq 12, [4]), (.aload_n 0, []), (.getfield 695, [17, 81, 0]), (.bipush 100, []), (.if_icmp .ne 9, [5]), (.nop, [4])]),
  (false, [(.aload_n 0, []), (.bipush 6, []), (.invokevirtual 689, [1, 17, 77, 2, 0, 0, 1]), (.nop, [5])]),
  (true, [(.aload_n 0, []), (.getfield 677, [17, 99, 0]), (.iconst (-1), []), (.if_icmp .eq 5, [6]), (.iconst 0, []), (.ireturn, [])]),
  (false, [(.aload_n 0, []), (.getfield 177, [17, 82, 1]), (.aload_n 0, []), (.getfield 695, [17, 81, 0]), (.iload_n 2, []), (.iastore, []), (.aload_n 0, []), (.getfield 180, [17, 83, 1]), (.aload_n 0, []), (.getfield 695, [17, 81, 0]), (.iload_n 1, []), (.iastore, []), (.aload_n 0, []), (.aload_n 0, []), (.getfield 695, [17, 81, 0]), (.iconst 1, []), (.iadd, []), (.putfield 695, [17, 81, 0]), (.iload_n 2, []), (.ireturn, [])])]
